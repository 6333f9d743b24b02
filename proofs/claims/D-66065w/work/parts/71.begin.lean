set_option maxRecDepth 100000
/-! a run is begun: the class -/
def kCp (K : KS) (mk : Nat) : KS := mkK (kkh K) (fun kd t k i => if kd = 10 * mk ∧ t = 0 ∧ k = 0 ∧ i < 32 then kka K 11 0 0 i else kka K kd t k i) (kkf K) (kkp K)
def kMb (K : KS) (mk pa : Nat) : KS := ksI (ksI (ksI (ksI (kCp (ksP K (mk + 1) (some pa)) mk) 1002 mk 0 0 0) 1003 mk 0 0 0) 1004 mk 0 0 0) 1005 mk 0 0 1
section BG
variable {G : GA} {B : CS} {K : KS} {mk pa c : Nat} {P : PD} {al ia : Nat → Nat}
theorem hp_cpy (hm : mk = 2 ∨ mk = 3) (hS : St G B) : cpyI (hp G K B) (gad G 11 0 0) (gad G (10 * mk) 0 0) 0 0 32 = hp G (kCp K mk) B := by
  have hr : okR G (10 * mk) 0 0 := by rcases hm with rfl | rfl <;> exact ok_1 (by decide)
  have hr11 : okR G 11 0 0 := ok_1 (by decide)
  have hlk : lenk (10 * mk) = 32 := by rcases hm with rfl | rfl <;> rfl
  have hk50 : 10 * mk < 50 := by omega
  have e : u1 (cai (hp G K B)) (gad G (10 * mk) 0 0) (va_cpy (cai (hp G K B) (gad G 11 0 0)) (cai (hp G K B) (gad G (10 * mk) 0 0)) 0 0 32) = cai (hp G (kCp K mk) B) := by
    funext x i
    rw [hp_cai]
    by_cases cx : x = gad G (10 * mk) 0 0
    · rw [cx, u1_s, hS.ro hr]
      show va_cpy _ _ 0 0 32 i = if 10 * mk < 50 ∧ i < lenk (10 * mk) then (if 10 * mk = 10 * mk ∧ 0 = 0 ∧ 0 = 0 ∧ i < 32 then kka K 11 0 0 i else kka K (10 * mk) 0 0 i) else cai B (gad G (10 * mk) 0 0) i
      rw [hlk]
      unfold va_cpy
      by_cases ci : i < 32
      · rw [if_pos (by omega), if_pos ⟨hk50, ci⟩, if_pos ⟨rfl, rfl, rfl, ci⟩, hp_ai hS hr11 (by decide) (show 0 + (i - 0) < lenk 11 by show 0 + (i - 0) < 32; omega)]
        congr 1
        omega
      · rw [if_neg (by omega), if_neg (fun z => ci z.2), hp_cai, hS.ro hr]
        show (if 10 * mk < 50 ∧ i < lenk (10 * mk) then _ else _) = _
        rw [hlk, if_neg (fun z => ci z.2)]
    · rw [u1_n cx, hp_cai]
      by_cases c2 : (gro G x).1 < 50 ∧ i < lenk (gro G x).1
      · rw [if_pos c2, if_pos c2]
        show _ = if (gro G x).1 = 10 * mk ∧ (gro G x).2.1 = 0 ∧ (gro G x).2.2 = 0 ∧ i < 32 then _ else _
        rw [if_neg]
        rintro ⟨z1, z2, z3, -⟩
        have := (hS.1.2 x (by omega)).2
        rw [z1, z2, z3] at this
        exact cx this.symm
      · rw [if_neg c2, if_neg c2]
  show mkC _ _ _ _ (u1 (cai (hp G K B)) _ _) _ _ = _
  rw [e]; rfl
theorem wP_m (hm : mk = 2 ∨ mk = 3) (hS : St G B) {p : Option Nat} : setR (hp G K B) 1000 (gad G mk 0 0) p = hp G (ksP K (mk + 1) p) B := by
  rcases hm with rfl | rfl
  · exact wP_1000_2 hS
  · exact wP_1000_3 hS
theorem f_mbegin (hm : mk = 2 ∨ mk = 3) (hS : St G B) : fX3_begin (gad G mk 0 0) pa (gad G 11 0 0) (hp G K B) = some (0, hp G (kMb K mk pa) B, 0, 0) := by
  unfold fX3_begin
  rw [tM_ hm hS, chk_t, wP_m hm hS, rf_m hm hS, drf_s, tg_11 hS, chk_t, tg_c hm hS, chk_t, ln_11 hS, ln_c hm hS]
  show chk (le_ (0 + 32) 32) (chk (le_ (0 + 32) 32) (cret 0 (setI (setI (setI (setI (cpyI _ (gad G 11 0 0) (gad G (10 * mk) 0 0) 0 0 32) 1002 _ 0) 1003 _ 0) 1004 _ 0) 1005 _ 1))) = _
  rw [show le_ (0 + 32) 32 = true from by decide, chk_t, chk_t, hp_cpy hm hS, wI_m hm hS, wI_m hm hS, wI_m hm hS, wI_m hm hS]; rfl
/-- cells of the serial run before its first touch -/
def kB9 (K : KS) (c0 : Nat) : KS := mkK (kkh K) (fun kd t k i => if (kd = 26 ∨ kd = 27) ∧ t = 0 ∧ k = 0 ∧ c0 ≤ i ∧ i < 32 then -1 else if kd = 28 ∧ t = 0 ∧ k = 0 ∧ c0 ≤ i ∧ i < 32 then 0 else kka K kd t k i) (kkf K) (kkp K)
theorem f_begin93 (hS : St G B) : ∀ (m c N : Nat) (K : KS), c + m = 32 → m < N → fX4_begin_at93 N (gad G 2 0 0) (nI c) (hp G K B) = some (0, hp G (kB9 K c) B, 0, 0) := by
  intro m
  induction m with
  | zero =>
    intro c N K h1 h2
    obtain ⟨M, rfl⟩ : ∃ M, N = M + 1 := ⟨N - 1, by omega⟩
    rw [fX4_begin_at93, if_pos (show (32 : Int32) ≤ nI c from (nI_leI (a := 32) (by decide) (by omega)).mpr (by omega))]
    have e : kB9 K c = K := by
      refine KS_ext rfl ?_ rfl rfl
      funext kd t k i
      show (if (kd = 26 ∨ kd = 27) ∧ t = 0 ∧ k = 0 ∧ c ≤ i ∧ i < 32 then -1 else if kd = 28 ∧ t = 0 ∧ k = 0 ∧ c ≤ i ∧ i < 32 then 0 else kka K kd t k i) = _
      rw [if_neg (by omega), if_neg (by omega)]
    rw [e]; rfl
  | succ m ih =>
    intro c N K h1 h2
    obtain ⟨M, rfl⟩ : ∃ M, N = M + 1 := ⟨N - 1, by omega⟩
    rw [fX4_begin_at93, if_neg (show ¬ (32 : Int32) ≤ nI c from fun z => by have := (nI_leI (a := 32) (by decide) (by omega)).mp z; omega)]
    have hc : c < 32 := by omega
    simp only [tg_2 hS, chk_t, rf_419_2 hS, drf_s, tg_26 hS, ln_26 hS, ibn hc (show 32 < 2 ^ 31 by decide), cln_ (show c < 2 ^ 31 by omega), wA_26 hS hc, rf_420_2 hS, tg_27 hS, ln_27 hS, wA_27 hS hc, rf_421_2 hS, tg_28 hS, ln_28 hS, wA_28 hS hc, vnz0, nI_1]
    rw [ih (c + 1) M _ (by omega) (by omega)]
    have e : kB9 (ksA (ksA (ksA K 26 0 0 c (-1)) 27 0 0 c (-1)) 28 0 0 c 0) (c + 1) = kB9 K c := by
      refine KS_ext rfl ?_ rfl rfl
      funext kd t k i
      show (if (kd = 26 ∨ kd = 27) ∧ t = 0 ∧ k = 0 ∧ c + 1 ≤ i ∧ i < 32 then -1 else if kd = 28 ∧ t = 0 ∧ k = 0 ∧ c + 1 ≤ i ∧ i < 32 then 0 else kka (ksA (ksA (ksA K 26 0 0 c (-1)) 27 0 0 c (-1)) 28 0 0 c 0) kd t k i) = (if (kd = 26 ∨ kd = 27) ∧ t = 0 ∧ k = 0 ∧ c ≤ i ∧ i < 32 then -1 else if kd = 28 ∧ t = 0 ∧ k = 0 ∧ c ≤ i ∧ i < 32 then 0 else kka K kd t k i)
      rw [ka_A, ka_A, ka_A]
      by_cases z : t = 0 ∧ k = 0
      · obtain ⟨rfl, rfl⟩ := z
        by_cases z2 : i = c
        · subst z2
          by_cases z3 : kd = 28
          · rw [if_neg (by omega), if_neg (by omega), if_pos ⟨z3, rfl, rfl, rfl⟩, if_neg (by omega), if_pos ⟨z3, rfl, rfl, Nat.le_refl _, hc⟩]
          · by_cases z4 : kd = 27
            · rw [if_neg (by omega), if_neg (by omega), if_neg (by omega), if_pos ⟨z4, rfl, rfl, rfl⟩, if_pos ⟨Or.inr z4, rfl, rfl, Nat.le_refl _, hc⟩]
            · by_cases z5 : kd = 26
              · rw [if_neg (by omega), if_neg (by omega), if_neg (by omega), if_neg (by omega), if_pos ⟨z5, rfl, rfl, rfl⟩, if_pos ⟨Or.inl z5, rfl, rfl, Nat.le_refl _, hc⟩]
              · rw [if_neg (by omega), if_neg (by omega), if_neg (by omega), if_neg (by omega), if_neg (by omega), if_neg (by omega), if_neg (by omega)]
        · rw [if_neg (show ¬ (kd = 28 ∧ 0 = 0 ∧ 0 = 0 ∧ i = c) from fun y => z2 y.2.2.2), if_neg (show ¬ (kd = 27 ∧ 0 = 0 ∧ 0 = 0 ∧ i = c) from fun y => z2 y.2.2.2), if_neg (show ¬ (kd = 26 ∧ 0 = 0 ∧ 0 = 0 ∧ i = c) from fun y => z2 y.2.2.2)]
          by_cases z3 : (kd = 26 ∨ kd = 27) ∧ c ≤ i ∧ i < 32
          · rw [if_pos ⟨z3.1, rfl, rfl, by omega, z3.2.2⟩, if_pos ⟨z3.1, rfl, rfl, z3.2.1, z3.2.2⟩]
          · rw [if_neg (show ¬ ((kd = 26 ∨ kd = 27) ∧ 0 = 0 ∧ 0 = 0 ∧ c + 1 ≤ i ∧ i < 32) by omega), if_neg (show ¬ ((kd = 26 ∨ kd = 27) ∧ 0 = 0 ∧ 0 = 0 ∧ c ≤ i ∧ i < 32) by omega)]
            by_cases z4 : kd = 28 ∧ c ≤ i ∧ i < 32
            · rw [if_pos ⟨z4.1, rfl, rfl, by omega, z4.2.2⟩, if_pos ⟨z4.1, rfl, rfl, z4.2.1, z4.2.2⟩]
            · rw [if_neg (by omega), if_neg (by omega)]
      · rw [if_neg (by omega), if_neg (by omega), if_neg (by omega), if_neg (by omega), if_neg (by omega), if_neg (by omega), if_neg (by omega)]
    rw [e]
/-- the serial run's contents when it begins -/
def kSb0 (K : KS) (pa b0 : Nat) : KS := ksI (kBeg (ksI (ksI (kMb K 2 pa) 502 4 100 0 0) 503 4 100 0 0) 100 0 (nI b0) 0) 502 4 100 0 (nI 1)
def kSb (K : KS) (pa b0 : Nat) : KS := kB9 (ksA (ksA (ksI (ksA (ksI (ksI (ksI (ksI (ksI (ksI (kSb0 K pa b0) 415 2 0 0 0) 414 2 0 0 0) 410 2 0 0 0) 409 2 0 0 0) 408 2 0 0 0) 413 2 0 0 1) 22 0 0 0 (-1)) 418 2 0 0 1) 24 0 0 0 0) 25 0 0 0 0) 0
theorem f_sbegin (hS : St G B) (hF : FkOk G K) (hP : PrA G B P pa al ia) (hq : 0 < pq P) : ∃ G' B' c1 s1, fX4_begin (gad G 2 0 0) pa (gad G 11 0 0) (hp G K B) = some (0, hp G' (kSb K pa (pb P 0)) B', c1, s1) ∧ St G' B' ∧ ExtW G B G' B' ∧ gnt G' = gnt G ∧ gnr G' = 0 ∧ (∀ t', gnf G t' ≤ gnf G' t') ∧ (∀ t', t' ≠ 100 → gnf G' t' = gnf G t') ∧ 0 < gnf G' 100 ∧ c1 ≤ 3 * (gnf G' 100 - gnf G 100) ∧ s1 ≤ 101 * (gnf G' 100 - gnf G 100) ∧ (gnf G' 100 = gnf G 100 ∨ gnf G' 100 = 1) := by
  have t100 : (100 : Nat) = 100 ∨ 100 < gnt G := Or.inl rfl
  have hF1 : FkOk G (ksI (ksI (kMb K 2 pa) 502 4 100 0 0) 503 4 100 0 0) := hF
  have h502 : kkh (ksI (ksI (kMb K 2 pa) 502 4 100 0 0) 503 4 100 0 0) 502 4 100 0 = nI 0 := by rw [kh_I, if_neg (by omega), kh_I, if_pos ⟨rfl, rfl, rfl, rfl⟩]; rfl
  obtain ⟨G1, B1, c1, s1, e1, e2, e3, e4, e5, e6, e7, e8, e9, e10, e11⟩ := f_enter (nx := nI (pb P 0)) (fk := 0) hS t100 h502 (by omega) (by omega) hF1 (by decide)
  obtain ⟨B2, x1, x2, x3, x4⟩ := f_clrRaces (K := ksA (ksA (ksI (ksA (ksI (ksI (ksI (ksI (ksI (ksI (kSb0 K pa (pb P 0)) 415 2 0 0 0) 414 2 0 0 0) 410 2 0 0 0) 409 2 0 0 0) 408 2 0 0 0) 413 2 0 0 1) 22 0 0 0 (-1)) 418 2 0 0 1) 24 0 0 0 0) 25 0 0 0 0) e2
  have z2 : gad G1 2 0 0 = gad G 2 0 0 := (e3.1 _ 0 0 (ok_1 (by decide)) (by omega)).2
  refine ⟨noR G1, B2, c1, s1, ?_, x2, e3.w.trans x3, e4, rfl, e6, e7, e8, e9, e10, e11⟩
  obtain ⟨h1, h2, h3, ⟨a1, a2, a3, a4, a5⟩, -, ⟨d1, d2, d3⟩, -⟩ := hP
  have p1 : ∀ K, tg (hp G K B) pa 3 = true := fun K => decide_eq_true a1
  have p2 : ∀ K, chr (hp G K B) 201 pa = some (al 2) := fun K => by rw [hpB_rf h1.1]; exact a3
  have p3 : ∀ K, tg (hp G K B) (al 2) 50 = true := fun K => decide_eq_true d1
  have p4 : ∀ K, cln (hp G K B) (al 2) = 8 := fun K => d2
  have p5 : ∀ K, cai (hp G K B) (al 2) 0 = nI (pb P 0) := fun K => by rw [hpB_ai (by have := (h2 2 (by omega)).1; omega)]; exact d3 0 hq
  have b93 := f_begin93 (K := ksA (ksA (ksI (ksA (ksI (ksI (ksI (ksI (ksI (ksI (kSb0 K pa (pb P 0)) 415 2 0 0 0) 414 2 0 0 0) 410 2 0 0 0) 409 2 0 0 0) 408 2 0 0 0) 413 2 0 0 1) 22 0 0 0 (-1)) 418 2 0 0 1) 24 0 0 0 0) 25 0 0 0 0) x2 32 0 1000000
  unfold fX4_begin
  rw [tg_2 hS, chk_t, f_mbegin (Or.inl rfl) hS, cbn_0, tg_2 hS, chk_t, hp_406 hS, drf_s, tg_4 hS t100, chk_t, f_clear hS t100, cbn_0, tg_2 hS, chk_t, p1, chk_t, p2, drf_s, p3, chk_t, p4, show ib (0 : Int32) 8 = true from by decide, chk_t, hp_406 hS, drf_s, tg_4 hS t100, chk_t, show (0 : Int32).toNatClampNeg = 0 from rfl, p5, e1, cbn_c, ← z2]
  rw [show ksI (kBeg (ksI (ksI (kMb K 2 pa) 502 4 100 0 0) 503 4 100 0 0) 100 0 (nI (pb P 0)) 0) 502 4 100 0 (nI (0 + 1)) = kSb0 K pa (pb P 0) from rfl]
  simp only [tg_2 e2, chk_t, wI_2 e2, rf_411_2 e2, drf_s, tg_22 e2, ln_22 e2, show ib (0 : Int32) 1500 = true from by decide, wA_22 e2 (show 0 < 1500 by decide), rf_416_2 e2, tg_24 e2, ln_24 e2, wA_24 e2 (show 0 < 1500 by decide), rf_417_2 e2, tg_25 e2, ln_25 e2, wA_25 e2 (show 0 < 1500 by decide), vnz0, rf_422_2 e2, tg_52 e2, x1, cbn_0]
  have b94 := b93 (by omega) (by omega)
  have z3 : gad (noR G1) 2 0 0 = gad G1 2 0 0 := rfl
  rw [z3] at b94
  rw [show (0 : Int32) = nI 0 from rfl] at b94 ⊢
  rw [b94]
  simp only [Option.map_some, Nat.add_zero]
  rfl
end BG
