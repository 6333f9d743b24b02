set_option maxRecDepth 100000
/-! a race more -/
def kRace (K : KS) (n : Nat) (c pl wr st : Int32) : KS := ksI (ksI (ksI (ksI K 800 6 0 n c) 801 6 0 n pl) 802 6 0 n wr) 803 6 0 n st
theorem kh_R {K : KS} {n : Nat} {c pl wr st : Int32} (g kd t k : Nat) : kkh (kRace K n c pl wr st) g kd t k = if kd = 6 ∧ t = 0 ∧ k = n ∧ g = 803 then st else if kd = 6 ∧ t = 0 ∧ k = n ∧ g = 802 then wr else if kd = 6 ∧ t = 0 ∧ k = n ∧ g = 801 then pl else if kd = 6 ∧ t = 0 ∧ k = n ∧ g = 800 then c else kkh K g kd t k := by
  unfold kRace
  rw [kh_I, kh_I, kh_I, kh_I]
  by_cases q : kd = 6 ∧ t = 0 ∧ k = n
  · simp only [q, true_and, and_true]
  · have q1 : ∀ z, ¬ (g = z ∧ kd = 6 ∧ t = 0 ∧ k = n) := fun z w => q w.2
    have q2 : ∀ z, ¬ (kd = 6 ∧ t = 0 ∧ k = n ∧ g = z) := fun z w => q ⟨w.1, w.2.1, w.2.2.1⟩
    simp only [q1, q2, if_false]
section NR
variable {B : CS} {G : GA} {K : KS} {x1 x2 x3 x4 : Int32}
theorem f_newRace (hS : St G B) (h32 : gnr G < 32) (hF : FkOk G K) (hz : zb x3 = true) :
    ∃ G' B' c s, (∀ (α : Type) (Q : CS → CR α) (y : α) (σ : CS) (c0 s0 : Nat), Q (hp G' (kRace K (gnr G) x1 x2 x3 x4) B') = some (y, σ, c0, s0) →
      cal 1 4 (cbn (fX11_init (csz B) x1 x2 x3 x4 (newO (hp G K B) 9)) (fun _ s64 => drf (chr (hp G K B) 422 (gad G 2 0 0)) (fun a70 => chk (tg s64 a70 10) (cbn (fJ2_add a70 (csz B) s64) (fun _ s74 => Q s74))))) = some (y, σ, c0 + c, s0 + s)) ∧
      St G' B' ∧ Ext G B G' B' ∧ gnt G' = gnt G ∧ gnf G' = gnf G ∧ gnr G' = gnr G + 1 ∧ c ≤ 2 ∧ s ≤ 60 := by
  generalize hn : gnr G = n at h32
  generalize hl : gad G 52 0 0 = l
  generalize he : gad G 62 0 0 = e
  have o50 : okR G 52 0 0 := ok_1 (by decide)
  have o60 : okR G 62 0 0 := ok_1 (by decide)
  have lz : l < csz B := by rw [← hl]; exact hS.lt o50
  have ez : e < csz B := by rw [← he]; exact hS.lt o60
  have gl : gro G l = (52, 0, 0) := by rw [← hl]; exact hS.ro o50
  have ge : gro G e = (62, 0, 0) := by rw [← he]; exact hS.ro o60
  have lne : l ≠ e := by intro q; rw [q, ge] at gl; simp at gl
  obtain ⟨L1, L2, L3, L4, L5⟩ := hS.2.2.2.2.2.2
  rw [hn] at L1 L2 L5
  rw [hl] at L1
  rw [he] at L2 L3 L4 L5
  have out0 := hS.out (Nat.le_refl (csz B))
  have out1 := hS.out (show csz B ≤ csz B + 1 by omega)
  generalize hB3 : setI (setI (setI (setI (newO B 9) 800 (csz B) x1) 801 (csz B) x2) 802 (csz B) x3) 803 (csz B) x4 = B3
  have z3 : csz B3 = csz B + 1 := by rw [← hB3]; rfl
  have A3 : ∀ y, y < csz B → Agr y B B3 := by
    intro y hy
    rw [← hB3]
    exact ((((Agr.newO (by omega)).trans (Agr.setI (by omega))).trans (Agr.setI (by omega))).trans (Agr.setI (by omega))).trans (Agr.setI (by omega))
  have t3 : cty B3 (csz B) = 9 := by rw [← hB3]; exact if_pos rfl
  have i3 : chi B3 803 (csz B) = x4 ∧ chi B3 802 (csz B) = x3 ∧ chi B3 801 (csz B) = x2 ∧ chi B3 800 (csz B) = x1 := by
    rw [← hB3]
    simp only [chi_setI]
    simp
  have hinit : fX11_init (csz B) x1 x2 x3 x4 (newO (hp G K B) 9) = some (0, hp G K B3, 0, 0) := by
    rw [hpB_newO hS]
    have : tg (hp G K (newO B 9)) (csz B) 9 = true := decide_eq_true (if_pos rfl)
    unfold fX11_init
    simp only [fJ18_init, cret, cbn_0, this, chk_t, hz, hpB_setI (G := G) (x := csz B) (show 50 ≤ (gro G (csz B)).1 by omega), hB3]
  have htl : tg (hp G K B3) l 10 = true := decide_eq_true (by rw [hp_ty, (A3 l lz).1, ← hl]; exact ty_52 hS)
  obtain ⟨B', e', c, s, hadd, P1, P2, P3, P4, P5, P6, P7, P8, P9, P10⟩ := hp_add (K := K) (B := B3) (G := G) (l := l) (e := e) (n := n) (x := csz B) (by rw [gl]; exact (by decide : 50 ≤ 52)) (by rw [z3]; exact out1) (by rw [(A3 l lz).1, ← hl]; exact ty_52 hS)
    (by rw [(A3 l lz).2.2.2.1, ← hl, hS.2.1.1 901 52 62 (by decide) 0 0 o50, he]) (by rw [hp_chr, gl, if_neg (by simp), if_neg (by show ¬ dynI 901 52 ≠ 0; decide), (A3 l lz).2.2.2.1, ← hl, hS.2.1.1 901 52 62 (by decide) 0 0 o50, he])
    (by rw [(A3 e ez).1, ← he]; exact ty_62 hS) (by rw [(A3 l lz).2.2.1]; exact L1) (by rw [(A3 e ez).2.1]; exact L2) (by rw [(A3 e ez).2.1]; exact L3) (by rw [(A3 e ez).2.1]; omega) (by omega) (by omega) lne (by omega) (by omega) (by rw [t3]; rfl)
    (by
      intro k hk
      have := ok_6 (G := G) (k := k) (by omega)
      refine ⟨gad G 6 0 k, by rw [(A3 e ez).2.2.2.2.2]; exact L5 k hk, by have := hS.lt this; omega, ?_⟩
      rw [(A3 _ (hS.lt this)).1, ty_6 hS (by omega)]
      rfl)
  generalize hG : mkG (fun kd t' k' => if kd = 6 ∧ t' = 0 ∧ k' = n then csz B else if kd = 62 ∧ t' = 0 ∧ k' = 0 then e' else gad G kd t' k')
    (fun x => if x = csz B then (6, 0, n) else if e' ≠ e ∧ x = e then (99, 0, 0) else if e' ≠ e ∧ x = e' then (62, 0, 0) else gro G x) (gnt G) (gnf G) (n + 1) = G'
  have ad : ∀ kd t' k', gad G' kd t' k' = if kd = 6 ∧ t' = 0 ∧ k' = n then csz B else if kd = 62 ∧ t' = 0 ∧ k' = 0 then e' else gad G kd t' k' := by intros; rw [← hG]; rfl
  have ro : ∀ x, gro G' x = if x = csz B then (6, 0, n) else if e' ≠ e ∧ x = e then (99, 0, 0) else if e' ≠ e ∧ x = e' then (62, 0, 0) else gro G x := by intros; rw [← hG]; rfl
  have nt' : gnt G' = gnt G := by rw [← hG]; rfl
  have nr' : gnr G' = n + 1 := by rw [← hG]; rfl
  have nf' : gnf G' = gnf G := by rw [← hG]; rfl
  have hcase : (e' = e ∧ csz B' = csz B + 1 ∧ cln B' e' = cln B e ∧ c = 0 ∧ s = 0) ∨ (e' = csz B + 1 ∧ csz B' = csz B + 2 ∧ n = cln B e ∧ cln B' e' = n + n / 2 ∧ c = 1 ∧ s = n + n / 2) := by
    rw [z3, (A3 e ez).2.1] at P8
    rcases P8 with q | q
    · exact Or.inl q
    · exact Or.inr ⟨q.1, by omega, q.2.2⟩
  have AB : ∀ y, y < csz B → y ≠ l → y ≠ e → Agr y B B' := fun y hy h1 h2 => (A3 y hy).trans (P9 y (by omega) h1 h2)
  have AX : Agr (csz B) B3 B' := P9 _ (by omega) (by omega) (by omega)
  have okN : ∀ kd t' k', okR G' kd t' k' ↔ okR G kd t' k' ∨ (kd = 6 ∧ t' = 0 ∧ k' = n) := by
    intro kd t' k'
    unfold okR
    rw [nt', nf', nr', hn]
    by_cases c1 : kd = 4 ∨ kd = 40 ∨ kd = 50 ∨ kd = 60
    · rw [if_pos c1, if_pos c1]
      constructor
      · exact Or.inl
      · rintro (q | q)
        · exact q
        · omega
    · rw [if_neg c1, if_neg c1]
      by_cases c2 : kd = 5 ∨ kd = 41
      · rw [if_pos c2, if_pos c2]
        constructor
        · exact Or.inl
        · rintro (q | q)
          · exact q
          · omega
      · rw [if_neg c2, if_neg c2]
        by_cases c3 : kd = 6
        · rw [if_pos c3, if_pos c3]
          constructor
          · intro q
            by_cases c4 : k' = n
            · exact Or.inr ⟨c3, q.1, c4⟩
            · exact Or.inl ⟨q.1, by omega⟩
          · rintro (q | q)
            · exact ⟨q.1, by omega⟩
            · exact ⟨q.2.1, by omega⟩
        · rw [if_neg c3, if_neg c3]
          constructor
          · exact Or.inl
          · rintro (q | q)
            · exact q
            · omega
  have nok : ∀ kd t' k', kd = 6 ∧ t' = 0 ∧ k' = n → ¬ okR G kd t' k' := by
    rintro kd t' k' ⟨q1, q2, q3⟩ q4
    subst q1 q2 q3
    simp [okR] at q4
    omega
  have W : Grw G B G' B' (fun kd t' k' => kd = 6 ∧ t' = 0 ∧ k' = n) 52 0 e e' l := by
    refine ⟨okN, ⟨by omega, by omega, o50, hl, o60, he, ?_⟩, fun kd t' k' hr hne => ?_, ?_, fun x hx hxe => ?_, ?_, fun x hx hx2 => ?_, ⟨by omega, P3⟩, by omega, AB, ?_, P1⟩
    · rw [ad, if_neg (by omega), if_pos ⟨rfl, rfl, rfl⟩]
    · have h1 : ¬ (kd = 6 ∧ t' = 0 ∧ k' = n) := fun q => nok _ _ _ q hr
      rw [ad, if_neg h1, if_neg (by omega)]
    · rintro kd t' k' ⟨q1, q2, q3⟩
      have hno := nok kd t' k' ⟨q1, q2, q3⟩
      subst q1 q2 q3
      rw [ad, if_pos ⟨rfl, rfl, rfl⟩]
      refine ⟨hno, Nat.le_refl _, by omega, by rw [ro, if_pos rfl], by rw [AX.1, t3]; rfl, fun q => absurd rfl q⟩
    · rw [ro, if_neg (by omega), if_neg (by omega), if_neg (by omega)]
    · rcases hcase with q | q
      · left
        refine ⟨q.1, ?_⟩
        rw [ro, if_neg (by omega), if_neg (by omega), if_neg (by omega)]
      · right
        refine ⟨by omega, ?_, ?_⟩
        · rw [ro, if_neg (by omega), if_pos ⟨by omega, rfl⟩]; exact (by decide : 90 ≤ 99)
        · rw [ro, if_neg (by omega), if_neg (by omega), if_pos ⟨by omega, rfl⟩]
    · rw [ro] at hx2
      by_cases c1 : x = csz B
      · exact Or.inr ⟨6, 0, n, ⟨rfl, rfl, rfl⟩, by rw [ro, if_pos c1], by rw [ad, if_pos ⟨rfl, rfl, rfl⟩, c1]⟩
      · rw [if_neg c1, if_neg (by omega)] at hx2
        by_cases c3 : x = e'
        · exact Or.inl c3
        · rw [if_neg (by omega)] at hx2
          have := hS.out hx
          omega
    · rw [P10]; exact (A3 l lz).1
  have S1 := W.st1 hS.1
  have St' : St G' B' := by
    refine ⟨S1, ⟨fun g kd kd' hs t' k' hr => ?_, W.r406 hS.1 hS.2.1⟩, fun t' ht' => ?_, by rw [nt']; exact hS.2.2.2.1, ?_, by rw [nr']; omega, ?_⟩
    · rcases (okN kd t' k').mp hr with q | ⟨q1, q2, q3⟩
      · exact W.rf hS.1 hS.2.1 hs q
      · subst q1
        exact absurd rfl ((by decide : ∀ q ∈ statL, q.2.1 ≠ 6) _ hs)
    · rw [nt'] at ht'
      rw [nf']
      obtain ⟨m1, m2⟩ := hS.2.2.1 t' ht'
      refine ⟨m1, ?_⟩
      have m3 := W.ls hS.1 (k2 := 50) (t2 := t') (ok_50 ht') (ok_60 ht') (by omega) (by omega) m2
      refine ⟨m3.1, m3.2.1, m3.2.2.1, m3.2.2.2.1, fun k hk => ?_⟩
      rw [m3.2.2.2.2 k hk]
      show some (gad G 5 t' k) = some (gad G' 5 t' k)
      rw [ad, if_neg (by omega), if_neg (by omega)]
    · rw [nt']
      have m3 := W.ls hS.1 (k2 := 51) (t2 := 0) (ok_1 (by decide)) (ok_1 (by decide)) (by omega) (by omega) hS.2.2.2.2.1
      refine ⟨m3.1, m3.2.1, m3.2.2.1, m3.2.2.2.1, fun k hk => ?_⟩
      rw [m3.2.2.2.2 k hk]
      show some (gad G 4 k 0) = some (gad G' 4 k 0)
      rw [ad, if_neg (by omega), if_neg (by omega)]
    · rw [nr']
      have x1 : gad G' 52 0 0 = l := by rw [ad, if_neg (by omega), if_neg (by omega)]; exact hl
      have x2 : gad G' 62 0 0 = e' := by rw [ad, if_neg (by omega), if_pos ⟨rfl, rfl, rfl⟩]
      unfold LsI
      rw [x1, x2]
      refine ⟨P2, P4, P5, ?_, fun k hk => ?_⟩
      · rcases hcase with q | q
        · rw [q.2.2.1]; exact L4
        · rw [q.2.2.2.1]; omega
      · by_cases c2 : k = n
        · rw [c2, P7]
          show some (csz B) = some (gad G' 6 0 n)
          rw [ad, if_pos ⟨rfl, rfl, rfl⟩]
        · rw [P6 k (by omega), (A3 e ez).2.2.2.2.2, L5 k (by omega)]
          show some (gad G 6 0 k) = some (gad G' 6 0 k)
          rw [ad, if_neg (by omega), if_neg (by omega)]
  have hK : hp G K B' = hp G' (kRace K n x1 x2 x3 x4) B' := by
    refine W.hpEq hS.1 hF ?_ ?_ ?_ rfl ?_ ?_ ?_ ?_
    · intro g kd t' k' hr _ _
      have q0 : ¬ (kd = 6 ∧ t' = 0 ∧ k' = n) := fun q => nok kd t' k' q hr
      have q2 : ∀ z, ¬ (kd = 6 ∧ t' = 0 ∧ k' = n ∧ g = z) := fun z w => q0 ⟨w.1, w.2.1, w.2.2.1⟩
      rw [kh_R, if_neg (q2 _), if_neg (q2 _), if_neg (q2 _), if_neg (q2 _)]
    · intro kd t' k' i hr _ _; rfl
    · intro t' k' hr; rfl
    · rintro g kd t' k' ⟨q1, q2, q3⟩ q4 hg
      subst q1 q2 q3
      have hg' : 800 ≤ g ∧ g ≤ 803 := of_decide_eq_true hg
      rw [ad, if_pos ⟨rfl, rfl, rfl⟩, AX.2.2.1, kh_R]
      by_cases g3 : g = 803
      · rw [if_pos ⟨rfl, rfl, rfl, g3⟩, g3]; exact i3.1
      · rw [if_neg (by omega)]
        by_cases g2 : g = 802
        · rw [if_pos ⟨rfl, rfl, rfl, g2⟩, g2]; exact i3.2.1
        · rw [if_neg (by omega)]
          by_cases g1 : g = 801
          · rw [if_pos ⟨rfl, rfl, rfl, g1⟩, g1]; exact i3.2.2.1
          · rw [if_neg (by omega), if_pos ⟨rfl, rfl, rfl, by omega⟩, show g = 800 by omega]; exact i3.2.2.2
    · rintro kd t' k' i ⟨q1, q2, q3⟩ hi
      subst q1
      exact absurd hi (Nat.not_lt_zero _)
    · rintro t' k' ⟨q1, q2, q3⟩; omega
    · rintro kd t' k' ⟨q1, q2, q3⟩; omega
  refine ⟨G', B', 1 + c, 4 + s, ?_, St', W.ext hS.1, nt', nf', nr', by omega, by omega⟩
  intro α Q y σ c0 s0 hQ
  rw [hinit, cbn_0, rf_422_2 hS, drf_s, hl, htl, chk_t, hadd, cbn_c, hK, hQ]
  simp only [Option.map_some, cal_s]
  congr 3
  simp only [Prod.mk.injEq]
  omega
end NR
