set_option maxRecDepth 100000
/-! a serial run is begun on both sides -/
section SC
variable {G : GA} {B : CS} {P : PD} {ht : Nat → Nat} {K : KS} {f : MF} {a : MA} {pa b0 : Nat} {al ia q : Nat → Nat}
theorem mbF_o {g : Nat} (h : ¬ ((1347 ≤ g ∧ g ≤ 1353) ∨ g = 1364 ∨ g = 1366 ∨ g = 1300)) : mbF f g = f g := by
  unfold mbF
  rw [u1_n (by omega), u1_n (by omega), u1_n (by omega), u1_n (by omega), u1_n (by omega), u1_n (by omega), u1_n (by omega), u1_n (by omega), u1_n (by omega), u1_n (by omega), u1_n (by omega)]
theorem mbF_1351 : mbF f 1351 = nI 0 := u1_s
theorem mbF_1350 : mbF f 1350 = nI 1 := by unfold mbF; rw [u1_n (by decide), u1_s]
theorem mbF_z {g : Nat} (h : g = 1366 ∨ g = 1364 ∨ g = 1353 ∨ g = 1352 ∨ g = 1349 ∨ g = 1348 ∨ g = 1300) : mbF f g = nI 0 := by
  unfold mbF
  rw [u1_n (by omega), u1_n (by omega)]
  by_cases c1 : g = 1366
  · rw [c1, u1_s]; rfl
  · rw [u1_n c1]
    by_cases c2 : g = 1364
    · rw [c2, u1_s]; rfl
    · rw [u1_n c2]
      by_cases c3 : g = 1353
      · rw [c3, u1_s]; rfl
      · rw [u1_n c3]
        by_cases c4 : g = 1352
        · rw [c4, u1_s]; rfl
        · rw [u1_n c4, u1_n (by omega)]
          by_cases c5 : g = 1349
          · rw [c5, u1_s]; rfl
          · rw [u1_n c5]
            by_cases c6 : g = 1348
            · rw [c6, u1_s]; rfl
            · rw [u1_n c6, u1_n (by omega), show g = 1300 by omega, u1_s]; rfl
theorem mbF_1347 : mbF f 1347 = 1 := by
  unfold mbF
  rw [u1_n (by decide), u1_n (by decide), u1_n (by decide), u1_n (by decide), u1_n (by decide), u1_n (by decide), u1_n (by decide), u1_n (by decide), u1_n (by decide), u1_s]
theorem mbA0_x {j i : Nat} (h : j ≠ 29 ∧ ¬ (36 ≤ j ∧ j ≤ 38) ∧ j ≠ 26) : mbA0 a j i = u2 (u2 (u2 (u2 a 27 0 0) 28 0 0) 19 100 0) 24 100 0 j i := by
  unfold mbA0 clr47 b9A bA
  rw [if_neg (by omega), if_neg (by omega), if_neg (by omega), if_neg (by omega)]
theorem mbA0_26 {i : Nat} (hi : i < 32) : mbA0 a 26 i = a 18 i := by
  unfold mbA0 clr47 b9A bA
  rw [if_neg (by omega), if_neg (by omega), if_pos (by omega), u2_n (by omega), u2_n (by omega), u2_n (by omega), u2_n (by omega)]
theorem mbA0_38 {i : Nat} (hi : i < 32) : mbA0 a 38 i = 0 := by
  unfold mbA0 clr47 b9A bA
  rw [if_neg (by omega), if_neg (by omega), if_neg (by omega), if_pos (by omega)]
theorem mbA0_367 {j i : Nat} (hj : j = 36 ∨ j = 37) (hi : i < 1504) : mbA0 a j i = 0 := by
  unfold mbA0 clr47 b9A
  rw [if_neg (by omega), if_pos (by omega)]
theorem mbA0_29 {i : Nat} (hi : i < 47) : mbA0 a 29 i = 0 := by
  unfold mbA0 clr47
  rw [if_pos (by omega)]
theorem hsb_z {w : Nat → Int32} {base s : Nat} (h : w (base + s / 32) = 0) : hsb w base s = false := by
  unfold hsb
  rw [h, b_0]
def gz : Nat → Nat := fun _ => 0
def gf : Nat → Bool := fun _ => false
def gn : Nat → Option Nat := fun _ => none
theorem cnt0 : (List.range 32).countP gf = 0 := by decide
theorem ser_begin (hS : St G B) (hF : FkOk G K) (hP : PrA G B P pa al ia) (hW : WfP P ht) (hm0 : pm P 0 = 0) (hPm : PmI P a) (hin : ∀ c, c < 32 → kka K 11 0 0 c = a 18 c) (h1328 : ¬ f 1328 = 0) (hkp : kkp K 1 = some pa) :
    ∃ G' B' K' f' a' c1 s1, fX1_begin (gad G 0 0 0) (hp G K B) = some (1, hp G' K' B', c1, s1) ∧ m_begin f a = some (1, f', a') ∧ ExtW G B G' B' ∧ gnt G' = gnt G ∧ (∀ t', t' ≠ 100 → gnf G' t' = gnf G t') ∧ gnf G 100 ≤ gnf G' 100 ∧ c1 ≤ 3 * (gnf G' 100 - gnf G 100) ∧ s1 ≤ 101 * (gnf G' 100 - gnf G 100) ∧ SerI G' B' P ht K' f' a' 1 0 0 false ∧ OutT K K' f f' a a' ∧ kkh K' 1005 2 0 0 = 1 ∧ f' 1347 = 1 ∧ f' 1300 = 0 := by
  have hq := hW.2.1
  obtain ⟨G', B', c1, s1, e1, e2, e3, e4, e5, e6, e7, e8, e9, e10, e11⟩ := f_sbegin hS hF hP hq
  obtain ⟨v0, v1, v2⟩ := hW.2.2.2.1 0 hq
  obtain ⟨m4, m5, m6⟩ := hPm.2 0 hq
  rw [hm0] at m5
  have hmb := mm_begin (q := gz) h1328 m4 m5
  generalize hA : enS (mbA0 a) 0 0 (pb P 0) 0 gz false = A at hmb
  have aO : ∀ j, ¬ ((19 ≤ j ∧ j ≤ 24) ∨ (30 ≤ j ∧ j ≤ 33)) → A j = mbA0 a j := fun j hj => by rw [← hA, enS_o hj]
  have aP : ∀ j, 12 ≤ j → j ≤ 17 → A j = a j := fun j h1 h2 => by rw [aO j (by omega), mbA0_o (by omega)]
  refine ⟨G', B', kSb K pa (pb P 0), mbF f, A, c1, s1, ?_, hmb, e3, e4, e7, e6 100, e9, e10, ⟨e2, ?_, ⟨pa, al, ia, hP.extW e3, ?_⟩, hW, ?_, ?_, 1, 1, gz, gz, gz, gz, gz, gz, gz, gf, gf, gf, gn, gn, gz, ?_⟩, ?_, ?_, mbF_1347, mbF_z (by omega)⟩
  · unfold fX1_begin
    rw [tg_0 hS, chk_t, dy_4_0 hS, hkp, opq_so, rf_3_0 hS, drf_s, drf_s, rf_5_0 hS, drf_s, tg_2 hS, chk_t, e1, cbn_c]
    simp only [cret, Option.map_some, Nat.add_zero]
  · intro t k p hr hp
    rw [kSb_f] at hp
    by_cases c : t = 100 ∧ k = 0
    · rw [if_pos c] at hp; cases hp
    · rw [if_neg c] at hp
      have hr' : (t = 100 ∨ t < gnt G') ∧ k < gnf G' t := hr
      have hr2 : okR G 5 t k := by
        show (t = 100 ∨ t < gnt G) ∧ k < gnf G t
        rw [e4] at hr'
        refine ⟨hr'.1, ?_⟩
        by_cases ct : t = 100
        · subst ct
          have := hr'.2
          rcases e11 with y | y
          · omega
          · omega
        · rw [← e7 t ct]; exact hr'.2
      exact (e3.1 _ _ _ (hF t k p hr2 hp) (by omega) (by omega)).1
  · rw [kSb_p, if_pos rfl]
  · refine ⟨⟨0, kSb_2 (by omega), mbF_z (by omega), Nat.le_refl _⟩, ?_, ?_, ?_, ?_⟩
    · rw [kSb_m (by omega), if_neg (by decide)]; rfl
    · rw [aO 28 (by omega), mbA0_x (by omega), u2_n (by omega), u2_n (by omega), u2_s]; rfl
    · rw [kSb_m (by omega), if_neg (by decide), aO 27 (by omega), mbA0_x (by omega), u2_n (by omega), u2_n (by omega), u2_n (by omega), u2_s]
    · intro c hc
      rw [kSb_20 hc, aO 26 (by omega), mbA0_26 hc]; exact hin c hc
  · refine ⟨⟨kSb_502, ?_, by omega, by omega⟩, ⟨kSb_503, ?_, by omega⟩, fun i hi => by omega, fun k hk => ?_, fun k hk v hv => ?_⟩
    · rw [← hA, enS_19, if_pos rfl]
    · rw [← hA, enS_24, if_pos rfl]
    · have : k = 0 := by omega
      subst this
      refine ⟨pb P 0, v1, ?_, ?_, by rw [if_pos rfl]; exact v2⟩
      · rw [kSb_t, if_pos rfl]
      · rw [← hA, enS_20, if_pos rfl]
    · have : k = 0 := by omega
      subst this
      rw [kSb_41 hv, ← hA, enS_22, if_pos (by omega)]; rfl
  · refine ⟨?_, ?_, ?_, ?_, ?_, ?_, ?_, ?_, ?_, ?_⟩
    · exact ⟨kSb_413, mbF_1350, by omega, by omega, kSb_2 (by omega), mbF_1351, kSb_418, Nat.le_refl _⟩
    · refine ⟨⟨fun s hs => ⟨by show (0 : Nat) < 1; omega, by show 0 = s; omega⟩, fun i hi => ⟨by show (0 : Nat) < 1; omega, by show 0 = i; omega⟩, rfl⟩, fun i hi => ?_, fun t s ht hs => ?_⟩
      · rw [if_pos (by omega)]; exact kSb_22
      · have : t = 0 := by omega
        subst this
        rw [aO 29 (by omega), hsb_z (mbA0_29 (by omega))]
        exact ⟨fun z => (by cases z), fun z => by omega⟩
    · exact ⟨0, kSb_2 (by omega), by omega, fun z => by omega⟩
    · refine ⟨by rw [kSb_2 (by omega), mbF_z (by omega)], 0, kSb_2 (by omega), mbF_z (by omega), by omega, fun i hi => by omega⟩
    · refine ⟨by rw [kSb_m (by omega), if_neg (by decide)]; rfl, mbF_z (by omega), ?_, fun _ => mbF_z (by omega), by rw [kSb_m (by omega), if_pos rfl]⟩
      rw [mbF_z (by omega), decide_eq_false (by omega)]; rfl
    · refine ⟨by rw [mbF_z (by omega), e5], by rw [e5]; exact cnt0.symm, fun c hc => ⟨?_, ?_⟩, fun i hi => by rw [e5] at hi; omega⟩
      · rw [kSb_28 hc]; rfl
      · rw [aO 38 (by omega), mbA0_38 hc]; rfl
    · intro c hc
      have z6 : ∀ s, s < 1504 → hsb (A 36) (47 * c) s = false := fun s hs => by rw [aO 36 (by omega)]; exact hsb_z (mbA0_367 (by omega) (by omega))
      have z7 : ∀ s, s < 1504 → hsb (A 37) (47 * c) s = false := fun s hs => by rw [aO 37 (by omega)]; exact hsb_z (mbA0_367 (by omega) (by omega))
      have y6 : ∀ s, s < 1504 → hsb (A 36) (47 * c) s = true → s < 1 := fun s h1 h2 => by rw [z6 s h1] at h2; exact absurd h2 (by decide)
      have y7 : ∀ s, s < 1504 → hsb (A 37) (47 * c) s = true → s < 1 := fun s h1 h2 => by rw [z7 s h1] at h2; exact absurd h2 (by decide)
      have x6 : ∀ s, s < 1 → ¬ (s < 1504 ∧ hsb (A 36) (47 * c) s = true) := fun s _ z => by have y := z.2; rw [z6 s z.1] at y; exact absurd y (by decide)
      have x7 : ∀ s, s < 1 → ¬ (s < 1504 ∧ hsb (A 37) (47 * c) s = true) := fun s _ z => by have y := z.2; rw [z7 s z.1] at y; exact absurd y (by decide)
      exact ⟨none, none, kSb_267 (by omega) hc, Or.inl ⟨rfl, x6⟩, y6, kSb_267 (by omega) hc, y7, fun _ => Or.inl ⟨rfl, x7⟩, Or.inl rfl⟩
    · refine ⟨rfl, fun k hk => ?_⟩
      have : k = 0 := by omega
      subst this
      have k1 : kkh (kSb K pa (pb P 0)) 701 5 100 0 = 0 := by rw [kSb_t, if_neg (by decide), if_pos rfl]
      have k5 : kkh (kSb K pa (pb P 0)) 705 5 100 0 = -1 := by rw [kSb_t, if_neg (by decide), if_neg (by decide), if_pos (by decide)]
      have k4 : kkh (kSb K pa (pb P 0)) 704 5 100 0 = -1 := by rw [kSb_t, if_neg (by decide), if_neg (by decide), if_pos (by decide)]
      have k3 : kkh (kSb K pa (pb P 0)) 703 5 100 0 = 0 := by rw [kSb_t, if_neg (by decide), if_neg (by decide), if_neg (by decide), if_pos (by decide)]
      have k8 : kkh (kSb K pa (pb P 0)) 708 5 100 0 = 0 := by rw [kSb_t, if_neg (by decide), if_neg (by decide), if_neg (by decide), if_pos (by decide)]
      rw [k1, k5, k4, k3, k8, ← hA, enS_31, enS_30, enS_32]
      refine ⟨rfl, if_pos rfl, ?_, rfl, rfl, rfl, ⟨0, rfl, if_pos rfl, Nat.le_refl _, fun _ => rfl⟩, fun z => by omega⟩
      rw [if_pos rfl, decide_eq_false (by omega)]; rfl
    · refine ⟨⟨fun k hk => by show (0 : Nat) < 1; omega, fun k hk => by omega, fun k hk t ht hst => ⟨Nat.le_refl _, fun s hs => absurd hs (Nat.not_lt_zero s)⟩, fun k hk z => (by cases z), fun k hk e z => (by cases z), fun k hk z s hj => ?_, fun k hk t h1 h2 => Or.inl (Nat.le_refl _)⟩, ?_, ⟨fun e he => ?_, by omega, by omega, fun e he => ?_⟩, fun e he => ?_⟩
      · rw [← hA, enS_jn] at hj
        have : k = 0 := by omega
        subst this
        rw [u1_s] at hj; exact hj
      · refine ⟨fun s hs => by show (0 : Nat) < 1; omega, fun k hk => ⟨by show (0 : Nat) < 1; omega, rfl, rfl⟩, fun k hk => by omega, fun k k' h1 h2 z => (by cases z), fun k hk => Or.inl ⟨rfl, rfl⟩, fun k k' b h1 h2 z => (by cases z), fun s hs => Or.inl ⟨0, by omega, rfl, rfl, Nat.zero_le _, Nat.le_refl _, fun k' h1 h2 => by omega⟩⟩
      · exact ⟨by show (0 : Nat) < 1; omega, by show (0 : Nat) < 1; omega, rfl, Nat.zero_le _, Or.inl ⟨by show 0 = e; omega, by show 0 = e; omega, rfl⟩⟩
      · have : e = 0 := by omega
        subst this
        rw [kSb_24]; rfl
      · have : e = 0 := by omega
        subst this
        rw [kSb_25]; rfl
    · unfold PmI
      rw [aP 12 (by omega) (by omega), aP 13 (by omega) (by omega), aP 14 (by omega) (by omega), aP 15 (by omega) (by omega), aP 16 (by omega) (by omega), aP 17 (by omega) (by omega)]; exact hPm
  · refine ⟨fun g kd t k y => kSb_o (by omega) (by omega) (by omega), fun kd t k i y => kSb_a (by omega) (by omega), fun t k y => by rw [kSb_f, if_neg (by omega)], fun m y => by rw [kSb_p, if_neg y], fun g y => mbF_o y, fun j i y => ?_⟩
    have o1 := (oS_enS (K := K) (f := f) (a := mbA0 a) (d := 0) (b := 0) (b0 := pb P 0) (m := 0) (q := gz) (fk := false)).2.2.2.2.2 j i y
    rw [hA] at o1
    rw [o1]
    unfold mbA0 clr47 b9A bA
    rw [if_neg (by omega), if_neg (by omega), if_neg (by omega), if_neg (by omega), u2_n (by omega), u2_n (by omega), u2_n (by omega), u2_n (by omega)]
  · rw [kSb_m (by omega), if_pos rfl]
end SC
