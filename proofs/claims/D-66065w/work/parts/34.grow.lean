set_option maxRecDepth 100000
/-! THE WORLD GROWS -/
def Ext (G : GA) (B : CS) (G' : GA) (B' : CS) : Prop :=
  (∀ kd t k, okR G kd t k → kd < 60 → okR G' kd t k ∧ gad G' kd t k = gad G kd t k) ∧ csz B ≤ csz B' ∧ ∀ x, x < csz B → 90 ≤ (gro G x).1 → 90 ≤ (gro G' x).1 ∧ Agr x B B'
theorem Ext.refl (G : GA) (B : CS) : Ext G B G B := ⟨fun _ _ _ h _ => ⟨h, rfl⟩, Nat.le_refl _, fun x _ h => ⟨h, Agr.refl x B⟩⟩
theorem Ext.trans {G G' G'' : GA} {B B' B'' : CS} (h : Ext G B G' B') (h' : Ext G' B' G'' B'') : Ext G B G'' B'' :=
  ⟨fun kd t k q q2 => ⟨(h'.1 _ _ _ (h.1 _ _ _ q q2).1 q2).1, ((h'.1 _ _ _ (h.1 _ _ _ q q2).1 q2).2).trans (h.1 _ _ _ q q2).2⟩, Nat.le_trans h.2.1 h'.2.1, fun x hx q => ⟨(h'.2.2 x (Nat.lt_of_lt_of_le hx h.2.1) (h.2.2 x hx q).1).1, (h.2.2 x hx q).2.trans (h'.2.2 x (Nat.lt_of_lt_of_le hx h.2.1) (h.2.2 x hx q).1).2⟩⟩
theorem stat_ok {G : GA} {g kd kd' t k : Nat} (hs : (g, kd, kd') ∈ statL) (hr : okR G kd t k) : okR G kd' t k := by
  simp only [statL, List.mem_cons, Prod.mk.injEq, List.not_mem_nil, or_false] at hs
  rcases hs with h | h | h | h | h | h | h | h | h | h | h | h | h | h | h | h | h | h | h | h | h | h | h | h | h | h | h | h | h | h | h <;> obtain ⟨-, rfl, rfl⟩ := h <;> first | (simp [okR] at hr ⊢; exact hr) | (simp [okR, singles] at hr ⊢; exact hr)
theorem stat_src {g kd kd' : Nat} (hs : (g, kd, kd') ∈ statL) : (kd < 50 ∧ kd' < 60) ∨ (50 ≤ kd ∧ kd < 60 ∧ g = 901 ∧ kd' = kd + 10) := (by decide : ∀ q ∈ statL, (q.2.1 < 50 ∧ q.2.2 < 60) ∨ (50 ≤ q.2.1 ∧ q.2.1 < 60 ∧ q.1 = 901 ∧ q.2.2 = q.2.1 + 10)) _ hs
section GR
variable {G G' : GA} {B B' : CS} {N : Nat → Nat → Nat → Prop} {kE kL tE e e' l : Nat}
/-- what a growth by new roles N, with one list l (array e, then e') that gets one more, looks like -/
def Grw (G : GA) (B : CS) (G' : GA) (B' : CS) (N : Nat → Nat → Nat → Prop) (kL tE e e' l : Nat) : Prop :=
  (∀ kd t k, okR G' kd t k ↔ okR G kd t k ∨ N kd t k) ∧
  (50 ≤ kL ∧ kL < 54 ∧ okR G kL tE 0 ∧ gad G kL tE 0 = l ∧ okR G (kL + 10) tE 0 ∧ gad G (kL + 10) tE 0 = e ∧ gad G' (kL + 10) tE 0 = e') ∧
  (∀ kd t k, okR G kd t k → ¬ (kd = kL + 10 ∧ t = tE) → gad G' kd t k = gad G kd t k) ∧
  (∀ kd t k, N kd t k → ¬ okR G kd t k ∧ csz B ≤ gad G' kd t k ∧ gad G' kd t k < csz B' ∧ gro G' (gad G' kd t k) = (kd, t, k) ∧ cty B' (gad G' kd t k) = tagk kd ∧ (lenk kd ≠ 0 → cln B' (gad G' kd t k) = lenk kd)) ∧
  (∀ x, x < csz B → x ≠ e → gro G' x = gro G x) ∧
  ((e' = e ∧ gro G' e = gro G e) ∨ (csz B ≤ e' ∧ 90 ≤ (gro G' e).1 ∧ gro G' e' = (kL + 10, tE, 0))) ∧
  (∀ x, csz B ≤ x → (gro G' x).1 < 90 → x = e' ∨ ∃ kd t k, N kd t k ∧ gro G' x = (kd, t, k) ∧ gad G' kd t k = x) ∧
  (e' < csz B' ∧ cty B' e' = 53) ∧ csz B ≤ csz B' ∧
  (∀ y, y < csz B → y ≠ l → y ≠ e → Agr y B B') ∧ cty B' l = cty B l ∧ chr B' 901 l = some e'
theorem Grw.ok (h : Grw G B G' B' N kL tE e e' l) {kd t k : Nat} (hr : okR G kd t k) : okR G' kd t k := (h.1 kd t k).mpr (Or.inl hr)
theorem St1.inj (h : St1 G B) {kd t k kd' t' k' : Nat} (hr : okR G kd t k) (hr' : okR G kd' t' k') (e : gad G kd t k = gad G kd' t' k') : kd = kd' ∧ t = t' ∧ k = k' := by
  have h1 := (h.1 kd t k hr).2.1
  have h2 := (h.1 kd' t' k' hr').2.1
  rw [e, h2] at h1
  simp only [Prod.mk.injEq] at h1
  exact ⟨h1.1.symm, h1.2.1.symm, h1.2.2.symm⟩
theorem ok_60s {kd t k : Nat} (h : okR G kd t k) (hk : 50 ≤ kd) (hk2 : kd < 90) : k = 0 := by
  unfold okR at h
  repeat' split at h
  · exact h.2
  · omega
  · omega
  · exact h.2.1
/-- an old cell but the list's own: as it was -/
theorem Grw.agr (h : Grw G B G' B' N kL tE e e' l) (hS : St1 G B) {kd t k : Nat} (hr : okR G kd t k) (h1 : ¬ (kd = kL ∧ t = tE)) (h2 : ¬ (kd = kL + 10 ∧ t = tE)) : Agr (gad G kd t k) B B' := by
  obtain ⟨-, ⟨b1, b2, b3, b4, b5, b6, b7⟩, -, -, -, -, -, -, -, c4, -, -⟩ := h
  refine c4 _ (hS.1 kd t k hr).1 ?_ ?_
  · intro q
    rw [← b4] at q
    have := hS.inj hr b3 q
    exact h1 ⟨this.1, this.2.1⟩
  · intro q
    rw [← b6] at q
    have := hS.inj hr b5 q
    exact h2 ⟨this.1, this.2.1⟩
theorem Grw.st1 (h : Grw G B G' B' N kL tE e e' l) (hS : St1 G B) : St1 G' B' := by
  have hh := h
  obtain ⟨a1, ⟨b1, b2, b3, b4, b5, b6, b7⟩, a3, a4, a5, a6, a7, a8, a9, c4, c5, c6⟩ := h
  have hl0 : lenk kL = 0 := by
    have : kL = 50 ∨ kL = 51 ∨ kL = 52 ∨ kL = 53 := by omega
    rcases this with q | q | q | q <;> subst q <;> rfl
  have hl1 : lenk (kL + 10) = 0 := by
    have : kL = 50 ∨ kL = 51 ∨ kL = 52 ∨ kL = 53 := by omega
    rcases this with q | q | q | q <;> subst q <;> rfl
  have ht1 : tagk (kL + 10) = 53 := by
    have : kL = 50 ∨ kL = 51 ∨ kL = 52 ∨ kL = 53 := by omega
    rcases this with q | q | q | q <;> subst q <;> rfl
  refine ⟨fun kd t k hr => ?_, fun x hx => ?_⟩
  · rcases (a1 kd t k).mp hr with q | q
    · by_cases c1 : kd = kL + 10 ∧ t = tE
      · obtain ⟨c1, c2⟩ := c1
        subst c1 c2
        have ek := ok_60s q (by omega) (by omega)
        subst ek
        rw [b7]
        refine ⟨a8.1, ?_, by rw [a8.2, ht1], fun z => absurd hl1 z⟩
        rcases a6 with q6 | q6
        · rw [q6.1, q6.2, ← b6]; exact (hS.1 _ _ _ b5).2.1
        · exact q6.2.2
      · rw [a3 kd t k q c1]
        obtain ⟨d1, d2, d3, d4⟩ := hS.1 kd t k q
        have ne : gad G kd t k ≠ e := by
          intro z
          rw [← b6] at z
          have := hS.inj q b5 z
          exact c1 ⟨this.1, this.2.1⟩
        refine ⟨Nat.lt_of_lt_of_le d1 a9, by rw [a5 _ d1 ne]; exact d2, ?_, ?_⟩
        · by_cases c2 : gad G kd t k = l
          · rw [c2, c5, ← c2]; exact d3
          · rw [(c4 _ d1 c2 ne).1]; exact d3
        · intro z
          by_cases c2 : gad G kd t k = l
          · rw [← b4] at c2
            have := hS.inj q b3 c2
            rw [this.1] at z
            exact absurd hl0 z
          · rw [(c4 _ d1 c2 ne).2.1]; exact d4 z
    · exact (a4 kd t k q).2.2
  · by_cases c1 : x < csz B
    · by_cases c2 : x = e
      · rcases a6 with q6 | q6
        · rw [c2, q6.2, ← b6, (hS.1 _ _ _ b5).2.1]
          simp only
          exact ⟨hh.ok b5, by rw [b7, q6.1, b6]⟩
        · rw [c2] at hx; omega
      · rw [a5 x c1 c2] at hx ⊢
        obtain ⟨d1, d2⟩ := hS.2 x hx
        refine ⟨hh.ok d1, ?_⟩
        rw [a3 _ _ _ d1, d2]
        rintro ⟨z1, z2⟩
        have z3 := ok_60s d1 (by omega) (by omega)
        rw [z1, z2, z3, b6] at d2
        exact c2 d2.symm
    · rcases a7 x (by omega) hx with q | ⟨kd, t, k, n1, n2, n3⟩
      · rcases a6 with q6 | q6
        · have := (hS.1 _ _ _ b5).1
          rw [b6] at this
          rw [q, q6.1] at c1
          omega
        · rw [q, q6.2.2]
          exact ⟨hh.ok b5, b7⟩
      · rw [n2]
        exact ⟨(a1 _ _ _).mpr (Or.inr n1), n3⟩
/-- references of old objects -/
theorem Grw.rf (h : Grw G B G' B' N kL tE e e' l) (hS : St1 G B) (hS2 : St2 G B) {g kd kd' t k : Nat} (hs : (g, kd, kd') ∈ statL) (hr : okR G kd t k) : chr B' g (gad G' kd t k) = some (gad G' kd' t k) := by
  have hh := h
  obtain ⟨a1, ⟨b1, b2, b3, b4, b5, b6, b7⟩, a3, a4, a5, a6, a7, a8, a9, c4, c5, c6⟩ := h
  have hr' := stat_ok hs hr
  have h0 := hS2.1 g kd kd' hs t k hr
  rcases stat_src hs with q | q
  · rw [a3 kd t k hr (by omega), a3 kd' t k hr' (by omega), (hh.agr hS hr (by omega) (by omega)).2.2.2.1]; exact h0
  · by_cases c : kd = kL ∧ t = tE
    · obtain ⟨c1, c2⟩ := c
      subst c1 c2
      have e2 := ok_60s hr (by omega) (by omega)
      subst e2
      rw [a3 kd t 0 hr (by omega), q.2.2.1, q.2.2.2, b7, b4]; exact c6
    · rw [a3 kd t k hr (by omega), a3 kd' t k hr' (by omega), (hh.agr hS hr c (by omega)).2.2.2.1]; exact h0
theorem Grw.r406 (h : Grw G B G' B' N kL tE e e' l) (hS : St1 G B) (hS2 : St2 G B) : chr B' 406 (gad G' 2 0 0) = some (gad G' 4 100 0) := by
  have hh := h
  obtain ⟨a1, ⟨b1, b2, b3, b4, b5, b6, b7⟩, a3, -⟩ := h
  have o2 : okR G 2 0 0 := ok_1 (by decide)
  have o4 : okR G 4 100 0 := ok_4 (Or.inl rfl)
  rw [a3 _ _ _ o2 (by omega), a3 _ _ _ o4 (by omega), (hh.agr hS o2 (by omega) (by omega)).2.2.2.1]
  exact hS2.2
/-- another list -/
theorem Grw.ls (h : Grw G B G' B' N kL tE e e' l) (hS : St1 G B) {k2 t2 n M : Nat} {el : Nat → Nat} (hr : okR G k2 t2 0) (hr2 : okR G (k2 + 10) t2 0) (hk : 50 ≤ k2 ∧ k2 < 54) (hne : ¬ (k2 = kL ∧ t2 = tE)) (hl : LsI G B k2 (k2 + 10) t2 n M el) : LsI G' B' k2 (k2 + 10) t2 n M el := by
  have hh := h
  obtain ⟨a1, ⟨b1, b2, b3, b4, b5, b6, b7⟩, a3, -⟩ := h
  have A1 := hh.agr hS hr hne (by omega)
  have A2 := hh.agr hS hr2 (by omega) (by omega)
  unfold LsI
  rw [a3 _ _ _ hr (by omega), a3 _ _ _ hr2 (by omega), A1.2.2.1, A2.2.1, A2.2.2.2.2.2]
  exact hl
theorem Grw.ext (h : Grw G B G' B' N kL tE e e' l) (hS : St1 G B) : Ext G B G' B' := by
  have hh := h
  obtain ⟨a1, ⟨b1, b2, b3, b4, b5, b6, b7⟩, a3, a4, a5, a6, a7, a8, a9, c4, c5, c6⟩ := h
  refine ⟨fun kd t k hr hk => ⟨hh.ok hr, a3 kd t k hr (by omega)⟩, a9, fun x hx hx2 => ?_⟩
  have n1 : x ≠ e := by
    intro q
    rw [q, ← b6, (hS.1 _ _ _ b5).2.1] at hx2
    simp only at hx2
    omega
  have n2 : x ≠ l := by
    intro q
    rw [q, ← b4, (hS.1 _ _ _ b3).2.1] at hx2
    simp only at hx2
    omega
  rw [a5 x hx n1]
  exact ⟨hx2, c4 x hx n2 n1⟩
/-- the contents of the old world in the new one -/
theorem Grw.hpEq (h : Grw G B G' B' N kL tE e e' l) (hS : St1 G B) {K K' : KS} (hkf : ∀ t k p, okR G 5 t k → kkf K t k = some p → okR G 5 p.1 p.2)
    (h1 : ∀ g kd t k, okR G kd t k → kd < 10 → relG g kd = true → kkh K g kd t k = kkh K' g kd t k) (h2 : ∀ kd t k i, okR G kd t k → kd < 50 → i < lenk kd → kka K kd t k i = kka K' kd t k i) (h3 : ∀ t k, okR G 5 t k → kkf K t k = kkf K' t k) (h4 : kkp K = kkp K')
    (n1 : ∀ g kd t k, N kd t k → kd < 10 → relG g kd = true → chi B' g (gad G' kd t k) = kkh K' g kd t k) (n2 : ∀ kd t k i, N kd t k → i < lenk kd → cai B' (gad G' kd t k) i = kka K' kd t k i)
    (n3 : ∀ t k, N 5 t k → chr B' 710 (gad G' 5 t k) = none ∧ kkf K' t k = none) (n4 : ∀ kd t k, N kd t k → ¬ (kd < 4)) : hp G K B' = hp G' K' B' := by
  have hh := h
  obtain ⟨a1, ⟨b1, b2, b3, b4, b5, b6, b7⟩, a3, a4, a5, a6, a7, a8, a9, c4, c5, c6⟩ := h
  have hout : ∀ x, csz B ≤ x → 90 ≤ (gro G x).1 := by
    intro x hx
    apply Nat.le_of_not_lt
    intro c
    have q1 := hS.2 x c
    have q2 := (hS.1 _ _ _ q1.1).1
    rw [q1.2] at q2
    omega
  have he0 : e < csz B := by rw [← b6]; exact (hS.1 _ _ _ b5).1
  have hge : gro G e = (kL + 10, tE, 0) := by rw [← b6]; exact (hS.1 _ _ _ b5).2.1
  -- every address: of an old role, of a new one, of none that counts
  have key : ∀ x, (gro G' x = gro G x) ∨ (50 ≤ (gro G x).1 ∧ 50 ≤ (gro G' x).1) ∨ (90 ≤ (gro G x).1 ∧ ∃ kd t k, N kd t k ∧ gro G' x = (kd, t, k) ∧ gad G' kd t k = x) := by
    intro x
    by_cases c1 : x < csz B
    · by_cases c2 : x = e
      · rcases a6 with q | q
        · left; rw [c2]; exact q.2
        · right; left
          rw [c2, hge]
          simp only
          omega
      · exact Or.inl (a5 x c1 c2)
    · have o := hout x (by omega)
      by_cases c3 : (gro G' x).1 < 90
      · rcases a7 x (by omega) c3 with q | q
        · rcases a6 with q6 | q6
          · rw [q, q6.1] at c1; omega
          · right; left
            refine ⟨by omega, ?_⟩
            rw [q, q6.2.2]
            simp only
            omega
        · exact Or.inr (Or.inr ⟨o, q⟩)
      · exact Or.inr (Or.inl ⟨by omega, by omega⟩)
  have dy : ∀ g kd, 4 ≤ kd → ¬ (dynI g kd ≠ 0) := by
    intro g kd hk
    unfold dynI
    repeat' split
    all_goals omega
  unfold hp
  congr 1
  · funext g x
    rcases key x with q | q | ⟨q0, kd, t, k, q1, q2, q3⟩
    · rw [q]
      by_cases c : (gro G x).1 < 50 ∧ relG g (gro G x).1 = true
      · rw [if_pos c, if_pos c]
        have k10 : (gro G x).1 < 10 := by
          have c2 := c.2
          unfold relG at c2
          repeat' split at c2
          all_goals first | omega | exact of_decide_eq_true c2
        exact h1 _ _ _ _ (hS.2 x (by omega)).1 k10 c.2
      · rw [if_neg c, if_neg c]
    · rw [if_neg (by omega), if_neg (by omega)]
    · rw [if_neg (by omega), q2]
      by_cases c : kd < 50 ∧ relG g kd = true
      · rw [if_pos c]
        have k10 : kd < 10 := by
          have c2 := c.2
          unfold relG at c2
          repeat' split at c2
          all_goals first | omega | exact of_decide_eq_true c2
        rw [← n1 g kd t k q1 k10 c.2, q3]
      · rw [if_neg c]
  · funext g x
    rcases key x with q | q | ⟨q0, kd, t, k, q1, q2, q3⟩
    · rw [q]
      by_cases c : g = 710 ∧ (gro G x).1 = 5
      · rw [if_pos c, if_pos c]
        have o := (hS.2 x (by omega)).1
        rw [c.2] at o
        rw [← h3 _ _ o]
        cases hk : kkf K (gro G x).2.1 (gro G x).2.2 with
        | none => rfl
        | some p =>
          simp only [Option.map_some]
          rw [a3 _ _ _ (hkf _ _ _ o hk) (by omega)]
      · rw [if_neg c, if_neg c, h4]
    · rw [if_neg (show ¬ (g = 710 ∧ (gro G x).1 = 5) by omega), if_neg (show ¬ (g = 710 ∧ (gro G' x).1 = 5) by omega), if_neg (dy g (gro G x).1 (by omega)), if_neg (dy g (gro G' x).1 (by omega))]
    · rw [if_neg (show ¬ (g = 710 ∧ (gro G x).1 = 5) by omega), if_neg (dy g (gro G x).1 (by omega)), q2]
      have n4' := n4 _ _ _ q1
      by_cases c : g = 710 ∧ kd = 5
      · rw [if_pos c]
        obtain ⟨c1, c2⟩ := c
        subst c1 c2
        rw [(n3 t k q1).2, ← q3, (n3 t k q1).1]; rfl
      · rw [if_neg c, if_neg (dy _ _ (by omega))]
  · funext x i
    rcases key x with q | q | ⟨q0, kd, t, k, q1, q2, q3⟩
    · rw [q]
      by_cases c : (gro G x).1 < 50 ∧ i < lenk (gro G x).1
      · rw [if_pos c, if_pos c]; exact h2 _ _ _ _ (hS.2 x (by omega)).1 c.1 c.2
      · rw [if_neg c, if_neg c]
    · rw [if_neg (by omega), if_neg (by omega)]
    · rw [if_neg (by omega), q2]
      by_cases c : kd < 50 ∧ i < lenk kd
      · rw [if_pos c, ← n2 kd t k i q1 c.2, q3]
      · rw [if_neg c]
end GR
