set_option maxRecDepth 100000
/-! the serial run: a strand more; a fork -/
section FK
variable {G : GA} {B : CS} {P : PD} {ht : Nat → Nat} {K K' : KS} {f f' : MF} {a a' : MA} {n d h wk pc b b0 m ne x v : Nat} {q pos at_ el : Nat → Nat} {td : Nat → Bool} {fk : Bool} {nx : Int32}
theorem SoI.grow (h1 : SoI K a n pos at_) (hx : x < n) (hk : kka K' 22 0 0 = u1 (u1 (kka K 22 0 0) n (kka K 22 0 0 x)) x (nI n)) (ho : ∀ t s, t < n → s < 1504 → hsb (a' 29) (47 * t) s = hsb (a 29) (47 * t) s) (hn : ∀ s, s < 1504 → (hsb (a' 29) (47 * n) s = true ↔ s < n ∧ pos s ≤ pos x)) :
    SoI K' a' (n + 1) (ins n x pos) (insA n (pos x) at_) := by
  obtain ⟨o1, o2, o3⟩ := h1
  refine ⟨o1.ins hx, ?_, fun t s ht hs => ?_⟩
  · rw [hk]; exact o2.ins o1 hx
  · by_cases c : t = n
    · subst c
      rw [hn s hs]
      constructor
      · rintro ⟨y1, y2⟩
        exact ⟨y1, (ins_ln y1).mpr y2⟩
      · rintro ⟨y1, y2⟩
        exact ⟨y1, (ins_ln y1).mp y2⟩
    · rw [ho t s (by omega) hs, o3 t s (by omega) hs]
      constructor
      · rintro ⟨y1, y2⟩
        exact ⟨y1, (ins_lt (by omega) (by omega)).mpr y2⟩
      · rintro ⟨y1, y2⟩
        exact ⟨y1, (ins_lt (by omega) (by omega)).mp y2⟩
theorem SwI.grow (h1 : SwI K a n pos el td) (k2 : ∀ c, kka K' 26 0 0 c = kka K 26 0 0 c) (k7 : ∀ c, kka K' 27 0 0 c = kka K 27 0 0 c) (a6 : a' 36 = a 36) (a7 : a' 37 = a 37) : SwI K' a' (n + 1) (ins n x pos) (u1 el n v) td := by
  intro c hc
  obtain ⟨rd, wt, y1, y2, y3, y4, y5, y6, y7⟩ := h1 c hc
  refine ⟨rd, wt, by rw [k7]; exact y1, ?_, ?_, by rw [k2]; exact y4, ?_, fun z => ?_, ?_⟩
  · rw [a6]; exact y2.grow (fun s z => y3 s z.1 z.2)
  · intro s s1 s2
    rw [a6] at s2
    have := y3 s s1 s2
    omega
  · intro s s1 s2
    rw [a7] at s2
    have := y5 s s1 s2
    omega
  · rw [a7]; exact (y6 z).grow (fun s z => y5 s z.1 z.2)
  · rcases y7 with y | ⟨s, s1, s2⟩
    · exact Or.inl y
    · exact Or.inr ⟨s, by omega, by rw [u1_n (by omega)]; exact s2⟩
theorem SrI.grow (h1 : SrI K n pos) (k : kkh K' 415 2 0 0 = kkh K 415 2 0 0) {pos' : Nat → Nat} : SrI K' (n + 1) pos' := by
  obtain ⟨rk, r1, r2, r3⟩ := h1
  exact ⟨rk, by rw [k]; exact r1, by omega, fun z => by omega⟩
/-- the class's contents behind a fork -/
def kF (K : KS) (d pc ne n b0 m : Nat) (q : Nat → Nat) : KS := kW (kGive (kFk K d pc ne n (nI b0)) 100 100 (d + 1) 0 m q) 2
theorem kFk0_o {g kd t k : Nat} (h1 : ¬ (kd = 2 ∧ (g = 414 ∨ g = 413 ∨ g = 409))) (h2 : ¬ (kd = 5 ∧ k = d ∧ (g = 702 ∨ g = 706 ∨ g = 707))) : kkh (kFk0 K d pc ne n) g kd t k = kkh K g kd t k := by
  unfold kFk0 kGrow
  rw [kh_I, if_neg (by omega), kh_I, if_neg (by omega), kh_A, kh_A, kh_A, kh_A, kh_I, if_neg (by omega), kh_I, if_neg (by omega), kh_I, if_neg (by omega), kh_I, if_neg (by omega)]
theorem kFk_o {g kd t k : Nat} (h0 : kd ≠ 4) (h1 : ¬ (kd = 2 ∧ g = 418)) (h2 : ¬ (kd = 5 ∧ t = 100 ∧ k = d + 1)) : kkh (kFk K d pc ne n nx) g kd t k = kkh (kFk0 K d pc ne n) g kd t k := by
  unfold kFk
  rw [kh_I, if_neg (by omega), kh_I, if_neg (by omega), kh_I, if_neg (by omega), kh_B, if_neg h2]
theorem kF_x {g kd t k : Nat} (h : g ≠ 1003) (h0 : kd ≠ 4) : kkh (kF K d pc ne n b0 m q) g kd t k = kkh (kFk K d pc ne n (nI b0)) g kd t k := by
  unfold kF
  rw [kW_h2 h, kh_G, if_neg (by omega)]
theorem kF_o {g kd t k : Nat} (h : g ≠ 1003) (h0 : kd ≠ 4) (h1 : ¬ (kd = 2 ∧ (g = 418 ∨ g = 414 ∨ g = 413 ∨ g = 409))) (h2 : ¬ (kd = 5 ∧ t = 100 ∧ k = d + 1)) (h3 : ¬ (kd = 5 ∧ k = d ∧ (g = 702 ∨ g = 706 ∨ g = 707))) : kkh (kF K d pc ne n b0 m q) g kd t k = kkh K g kd t k := by
  rw [kF_x h h0, kFk_o h0 (by omega) h2, kFk0_o (by omega) h3]
theorem kF_1003 : kkh (kF K d pc ne n b0 m q) 1003 2 0 0 = kkh K 1003 2 0 0 + 1 := by
  unfold kF
  rw [kW_3, kh_G, if_neg (by omega), kFk_o (by omega) (by omega) (by omega), kFk0_o (by omega) (by omega)]
theorem kF_503 : kkh (kF K d pc ne n b0 m q) 503 4 100 0 = nI 0 := by
  unfold kF
  rw [kW_h2 (by decide), kh_G, if_pos ⟨rfl, rfl, rfl, rfl⟩]
theorem kF_502 : kkh (kF K d pc ne n b0 m q) 502 4 100 0 = nI (d + 2) := by
  unfold kF
  rw [kW_h2 (by decide), kh_G, if_neg (by omega)]
  unfold kFk
  rw [kh_I, if_neg (by omega), kh_I, if_neg (by omega), kh_I, if_pos ⟨rfl, rfl, rfl, rfl⟩]
theorem kF_4 {g t k : Nat} (h : t ≠ 100) : kkh (kF K d pc ne n b0 m q) g 4 t k = kkh K g 4 t k := by
  unfold kF kW
  rw [kh_I, if_neg (by omega), kh_G, if_neg (by omega)]
  unfold kFk
  rw [kh_I, if_neg (by omega), kh_I, if_neg (by omega), kh_I, if_neg (by omega), kh_B, if_neg (by omega), kFk0_o (by omega) (by omega)]
theorem kF_418 : kkh (kF K d pc ne n b0 m q) 418 2 0 0 = nI (ne + 1) := by
  rw [kF_x (by decide) (by decide)]
  unfold kFk
  rw [kh_I, if_pos ⟨rfl, rfl, rfl, rfl⟩]
theorem kF_414 : kkh (kF K d pc ne n b0 m q) 414 2 0 0 = nI n := by
  rw [kF_x (by decide) (by decide), kFk_o (by decide) (by omega) (by omega)]
  unfold kFk0
  rw [kh_I, if_pos ⟨rfl, rfl, rfl, rfl⟩]
theorem kF_413 : kkh (kF K d pc ne n b0 m q) 413 2 0 0 = nI (n + 1) := by
  rw [kF_x (by decide) (by decide), kFk_o (by decide) (by omega) (by omega)]
  unfold kFk0 kGrow
  rw [kh_I, if_neg (by omega), kh_I, if_pos ⟨rfl, rfl, rfl, rfl⟩]
theorem kF_409 : kkh (kF K d pc ne n b0 m q) 409 2 0 0 = kkh K 409 2 0 0 + 1 := by
  rw [kF_x (by decide) (by decide), kFk_o (by decide) (by omega) (by omega)]
  unfold kFk0 kGrow
  rw [kh_I, if_neg (by omega), kh_I, if_neg (by omega), kh_A, kh_A, kh_A, kh_A, kh_I, if_neg (by omega), kh_I, if_neg (by omega), kh_I, if_pos ⟨rfl, rfl, rfl, rfl⟩]
theorem kF_702 : kkh (kF K d pc ne n b0 m q) 702 5 100 d = nI (pc + 1) := by
  rw [kF_x (by decide) (by decide), kFk_o (by decide) (by omega) (by omega)]
  unfold kFk0 kGrow
  rw [kh_I, if_neg (by omega), kh_I, if_neg (by omega), kh_A, kh_A, kh_A, kh_A, kh_I, if_neg (by omega), kh_I, if_neg (by omega), kh_I, if_neg (by omega), kh_I, if_pos ⟨rfl, rfl, rfl, rfl⟩]
theorem kF_706 : kkh (kF K d pc ne n b0 m q) 706 5 100 d = kkh K 414 2 0 0 := by
  rw [kF_x (by decide) (by decide), kFk_o (by decide) (by omega) (by omega)]
  unfold kFk0 kGrow
  rw [kh_I, if_neg (by omega), kh_I, if_neg (by omega), kh_A, kh_A, kh_A, kh_A, kh_I, if_pos ⟨rfl, rfl, rfl, rfl⟩]
theorem kF_707 : kkh (kF K d pc ne n b0 m q) 707 5 100 d = kkh K 409 2 0 0 + 1 := by
  rw [kF_x (by decide) (by decide), kFk_o (by decide) (by omega) (by omega)]
  unfold kFk0 kGrow
  rw [kh_I, if_neg (by omega), kh_I, if_neg (by omega), kh_A, kh_A, kh_A, kh_A, kh_I, if_neg (by omega), kh_I, if_pos ⟨rfl, rfl, rfl, rfl⟩]
theorem kF_t {g : Nat} (h : g ≠ 1003) : kkh (kF K d pc ne n b0 m q) g 5 100 (d + 1) = if g = 703 then nI ne else if g = 702 then nI b0 else if g = 701 then 1 else if g = 704 ∨ g = 705 then -1 else if g = 703 ∨ g = 706 ∨ g = 707 ∨ g = 708 ∨ g = 709 then 0 else kkh (kFk0 K d pc ne n) g 5 100 (d + 1) := by
  rw [kF_x h (by decide)]
  unfold kFk
  rw [kh_I, if_neg (by omega)]
  by_cases c : g = 703
  · rw [if_pos c, kh_I, if_pos ⟨c, rfl, rfl, rfl⟩]
  · rw [if_neg c, kh_I, if_neg (fun z => c z.1), kh_I, if_neg (by omega), kh_B, if_pos ⟨rfl, rfl, rfl⟩]
theorem kF_a (kd t k i : Nat) (h : ¬ (kd = 41 ∧ t = 100 ∧ k = d + 1)) (h1 : kd ≠ 22) (h2 : ¬ (kd = 24 ∧ i = ne)) (h3 : ¬ (kd = 25 ∧ i = ne)) : kka (kF K d pc ne n b0 m q) kd t k i = kka K kd t k i := by
  unfold kF kW
  rw [ka_I, ka_G, if_neg h]
  unfold kFk
  rw [ka_I, ka_I, ka_I, ka_B, if_neg (by omega)]
  unfold kFk0 kGrow
  rw [ka_I, ka_I, ka_A, if_neg (by omega), ka_A, if_neg (by omega), ka_A, if_neg (by omega), ka_A, if_neg (by omega)]
  rfl
theorem kF_a22 : kka (kF K d pc ne n b0 m q) 22 0 0 = u1 (u1 (kka K 22 0 0) n (kka K 22 0 0 (n - 1))) (n - 1) (nI n) := by
  funext i
  unfold kF kW
  rw [ka_I, ka_G, if_neg (by omega)]
  unfold kFk
  rw [ka_I, ka_I, ka_I, ka_B, if_neg (by omega)]
  unfold kFk0 kGrow
  rw [ka_I, ka_I, ka_A]
  by_cases c : i = n - 1
  · rw [if_pos ⟨rfl, rfl, rfl, c⟩, c, u1_s]
  · rw [if_neg (fun z => c z.2.2.2), u1_n c, ka_A]
    by_cases c2 : i = n
    · rw [if_pos ⟨rfl, rfl, rfl, c2⟩, c2, u1_s, ka_A, if_neg (by omega), ka_A, if_neg (by omega)]; rfl
    · rw [if_neg (fun z => c2 z.2.2.2), u1_n c2, ka_A, if_neg (by omega), ka_A, if_neg (by omega)]; rfl
theorem kF_a24 : kka (kF K d pc ne n b0 m q) 24 0 0 ne = nI ne := by
  unfold kF kW
  rw [ka_I, ka_G, if_neg (by omega)]
  unfold kFk
  rw [ka_I, ka_I, ka_I, ka_B, if_neg (by omega)]
  unfold kFk0 kGrow
  rw [ka_I, ka_I, ka_A, if_neg (by omega), ka_A, if_neg (by omega), ka_A, if_neg (by omega), ka_A, if_pos ⟨rfl, rfl, rfl, rfl⟩]
theorem kF_a25 : kka (kF K d pc ne n b0 m q) 25 0 0 ne = 0 := by
  unfold kF kW
  rw [ka_I, ka_G, if_neg (by omega)]
  unfold kFk
  rw [ka_I, ka_I, ka_I, ka_B, if_neg (by omega)]
  unfold kFk0 kGrow
  rw [ka_I, ka_I, ka_A, if_neg (by omega), ka_A, if_neg (by omega), ka_A, if_pos ⟨rfl, rfl, rfl, rfl⟩]
theorem kF_a41 {i : Nat} (hi : i < 26) : kka (kF K d pc ne n b0 m q) 41 100 (d + 1) i = avl q (fun j => kka K 40 100 0 j) m i 0 := by
  unfold kF kW
  rw [ka_I, ka_G, if_pos ⟨rfl, rfl, rfl⟩]
  refine avl_at (fun j _ => ?_) ?_
  · unfold kFk
    rw [ka_I, ka_I, ka_I, ka_B, if_neg (by omega), Nat.zero_add]
    unfold kFk0 kGrow
    rw [ka_I, ka_I, ka_A, if_neg (by omega), ka_A, if_neg (by omega), ka_A, if_neg (by omega), ka_A, if_neg (by omega)]
    rfl
  · unfold kFk
    rw [ka_I, ka_I, ka_I, ka_B, if_pos ⟨rfl, rfl, rfl, hi⟩]
theorem kF_f (t k : Nat) : kkf (kF K d pc ne n b0 m q) t k = if t = 100 ∧ k = d + 1 then none else kkf K t k := rfl
theorem kF_p : kkp (kF K d pc ne n b0 m q) = kkp K := rfl
theorem oS_kF : OutS K (kF K d pc ne n b0 m q) f f a a := by
  refine ⟨fun g kd t k y => ?_, fun kd t k i y => kF_a _ _ _ _ (by omega) (by omega) (by omega) (by omega), fun t k y => by rw [kF_f, if_neg (by omega)], rfl, fun _ _ => rfl, fun _ _ _ => rfl⟩
  by_cases c : kd = 4
  · subst c
    exact kF_4 (by omega)
  · by_cases c2 : g = 1003
    · unfold kF kW
      rw [kh_I, if_neg (by omega), kh_G, if_neg (by omega), kFk_o c (by omega) (by omega)]
      unfold kFk0 kGrow
      rw [kh_I, if_neg (by omega), kh_I, if_neg (by omega), kh_A, kh_A, kh_A, kh_A, kh_I, if_neg (by omega), kh_I, if_neg (by omega), kh_I, if_neg (by omega), kh_I, if_neg (by omega)]
    · rw [kF_x c2 c, kFk_o c (by omega) (by omega)]
      unfold kFk0 kGrow
      rw [kh_I, if_neg (by omega), kh_I, if_neg (by omega), kh_A, kh_A, kh_A, kh_A, kh_I, if_neg (by omega), kh_I, if_neg (by omega), kh_I, if_neg (by omega), kh_I, if_neg (by omega)]
/-- the class: the fork of a step -/
theorem f_forksL {pa : Nat} {al ia : Nat → Nat} {p : Nat} (hS : St G B) (hd : kkh K 502 4 100 0 = nI d) (hn : kkh K 413 2 0 0 = nI n) (h40 : d ≤ 40) (hn15 : n ≤ 1500) (hq : d = 40 ∨ n = 1500) (hP : PrA G B P pa al ia) (hkp : kkp K 3 = some pa) (hp8 : p < pq P) (hq8 : pq P ≤ 8) :
    fX3_forks (gad G 2 0 0) (gad G 4 100 0) (nI p) (hp G K B) = some (0, hp G (ksI K 1004 2 0 0 1) B, 0, 0) := by
  have hl := fun y => f_forkL (nx := y) hS hd hn h40 hn15 hq
  obtain ⟨h1, h2, h3, ⟨a1, a2, a3, a4, a5⟩, -, ⟨c1, c2, c3⟩, -⟩ := hP
  have p1 : tg (hp G K B) pa 3 = true := decide_eq_true a1
  have p2 : chr (hp G K B) 201 pa = some (al 2) := by rw [hpB_rf h1.1]; exact a3
  have p3 : tg (hp G K B) (al 2) 50 = true := decide_eq_true c1
  have p4 : cln (hp G K B) (al 2) = 8 := c2
  have p5 : cai (hp G K B) (al 2) p = nI (pb P p) := by rw [hpB_ai (by have := (h2 2 (by omega)).1; omega)]; exact c3 p hp8
  unfold fX3_forks fM_fork
  simp only [tM_ (Or.inl rfl) hS, chk_t, dy_m (mk := 2) (Or.inl rfl) hS, hkp, drf_s, p1, p2, p3, p4, ibn (show p < 8 by omega) (show 8 < 2 ^ 31 by decide), cln_ (show p < 2 ^ 31 by omega), p5]
  rw [if_pos (show cty (hp G K B) (gad G 2 0 0) = 5 from ty_2 (B := B) hS), hl, cbn_0, opq_no]
  unfold fX3_limit
  simp only [tM_ (Or.inl rfl) hS, chk_t, wI_m (mk := 2) (Or.inl rfl) hS]
  rfl
theorem f_forks {pa : Nat} {al ia : Nat → Nat} {p : Nat} (hS : St G B) (hk : d < gnf G 100) (hd : kkh K 502 4 100 0 = nI (d + 1)) (hn : kkh K 413 2 0 0 = nI n) (h40 : d + 1 < 40) (h15 : n < 1500) (h0 : 0 < n) (hpc : kkh K 702 5 100 d = nI pc) (hs : kkh K 414 2 0 0 = nI (n - 1)) (hne : kkh K 418 2 0 0 = nI ne) (hne2 : ne < 1500) (hF : FkOk G K)
    (hP : PrA G B P pa al ia) (hkp : kkp K 3 = some pa) (hp8 : p < pq P) (hq8 : pq P ≤ 8) (hO : PpO P p) (hh : kkh K 503 4 100 0 = nI (pm P p)) :
    ∃ G' B' c1 s1, fX3_forks (gad G 2 0 0) (gad G 4 100 0) (nI p) (hp G K B) = some (1, hp G' (kGive (kFk K d pc ne n (nI (pb P p))) 100 100 (d + 1) 0 (pm P p) (pp P p)) B', c1, s1) ∧ St G' B' ∧ Ext G B G' B' ∧ gnt G' = gnt G ∧ gnr G' = gnr G ∧ (∀ t', gnf G t' ≤ gnf G' t') ∧ (∀ t', t' ≠ 100 → gnf G' t' = gnf G t') ∧ d + 1 < gnf G' 100 ∧ c1 ≤ 3 * (gnf G' 100 - gnf G 100) ∧ s1 ≤ 101 * (gnf G' 100 - gnf G 100) ∧ (gnf G' 100 = gnf G 100 ∨ gnf G' 100 = d + 2) := by
  obtain ⟨G', B', c1, s1, e1, e2, e3, e4, e5, e6, e7, e8, e9⟩ := f_fork (nx := nI (pb P p)) hS hk hd hn h40 h15 h0 hpc hs hne hne2 hF
  have z2 : gad G' 2 0 0 = gad G 2 0 0 := (e3.1 _ 0 0 (ok_1 (by decide)) (by omega)).2
  have z4 : gad G' 4 100 0 = gad G 4 100 0 := (e3.1 _ _ _ (ok_4 (Or.inl rfl)) (by omega)).2
  have hO1 := hO.1
  have g1 := f_give (b := 0) (K := kFk K d pc ne n (nI (pb P p))) (mk := 2) (Or.inl rfl) e2 (Or.inl rfl) (Or.inl rfl) e8 (hP.ext e3) hp8 hq8 hO (by omega) hkp (by
    rw [Nat.zero_add]
    unfold kFk
    rw [kh_I, if_neg (by omega), kh_I, if_neg (by omega), kh_I, if_neg (by omega), kh_B, if_neg (by omega), kFk0_o (by omega) (by omega)]; exact hh)
  refine ⟨G', B', c1, s1, ?_, e2, e3, e4, e5, e6, e7, e8, e9⟩
  obtain ⟨h1, h2, h3, ⟨a1, a2, a3, a4, a5⟩, -, ⟨c1', c2, c3⟩, -⟩ := hP
  have p1 : tg (hp G K B) pa 3 = true := decide_eq_true a1
  have p2 : chr (hp G K B) 201 pa = some (al 2) := by rw [hpB_rf h1.1]; exact a3
  have p3 : tg (hp G K B) (al 2) 50 = true := decide_eq_true c1'
  have p4 : cln (hp G K B) (al 2) = 8 := c2
  have p5 : cai (hp G K B) (al 2) p = nI (pb P p) := by rw [hpB_ai (by have := (h2 2 (by omega)).1; omega)]; exact c3 p hp8
  unfold fX3_forks fM_fork
  simp only [tM_ (Or.inl rfl) hS, chk_t, dy_m (mk := 2) (Or.inl rfl) hS, hkp, drf_s, p1, p2, p3, p4, ibn (show p < 8 by omega) (show 8 < 2 ^ 31 by decide), cln_ (show p < 2 ^ 31 by omega), p5]
  rw [if_pos (show cty (hp G K B) (gad G 2 0 0) = 5 from ty_2 (B := B) hS), e1, cbn_c, opq_so, ← z2, ← z4]
  simp only [tM_ (Or.inl rfl) e2, chk_t, g1, cbn_0, cret, Option.map_some, Nat.add_zero]
end FK
