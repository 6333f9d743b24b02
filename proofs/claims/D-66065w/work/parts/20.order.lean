set_option maxRecDepth 100000
/-! STRANDS. A strand's number is the order in which they begin; pos is its place in the row `behind` (forks go on first). -/
theorem u1_s {α : Type} {f : Nat → α} {i : Nat} {v : α} : u1 f i v i = v := if_pos rfl
theorem u1_n {α : Type} {f : Nat → α} {i j : Nat} {v : α} (h : j ≠ i) : u1 f i v j = f j := if_neg h
def ins (n x : Nat) (pos : Nat → Nat) : Nat → Nat := fun t => if t = n then pos x + 1 else if pos t ≤ pos x then pos t else pos t + 1
section INS
variable {n x s t : Nat} {pos : Nat → Nat}
theorem ins_new : ins n x pos n = pos x + 1 := if_pos rfl
theorem ins_old (h : t < n) : ins n x pos t = if pos t ≤ pos x then pos t else pos t + 1 := if_neg (by omega)
theorem ins_lt (hs : s < n) (ht : t < n) : ins n x pos s < ins n x pos t ↔ pos s < pos t := by
  rw [ins_old hs, ins_old ht]; split <;> split <;> omega
theorem ins_le (hs : s < n) (ht : t < n) : ins n x pos s ≤ ins n x pos t ↔ pos s ≤ pos t := by
  rw [ins_old hs, ins_old ht]; split <;> split <;> omega
theorem ins_ln (hs : s < n) : ins n x pos s < ins n x pos n ↔ pos s ≤ pos x := by
  rw [ins_old hs, ins_new]; split <;> omega
theorem ins_nl (hs : s < n) : ins n x pos n < ins n x pos s ↔ pos x < pos s := by
  rw [ins_old hs, ins_new]; split <;> omega
theorem ins_len (hs : s < n) : ins n x pos s ≤ ins n x pos n ↔ pos s ≤ pos x := by
  rw [ins_old hs, ins_new]; split <;> omega
theorem ins_nle (hs : s < n) : ins n x pos n ≤ ins n x pos s ↔ pos x < pos s := by
  rw [ins_old hs, ins_new]; split <;> omega
end INS
/-- the row: at_ i is the strand at place i -/
def OrdI (n : Nat) (pos at_ : Nat → Nat) : Prop := (∀ s, s < n → pos s < n ∧ at_ (pos s) = s) ∧ (∀ i, i < n → at_ i < n ∧ pos (at_ i) = i) ∧ pos 0 = 0
def insA (n p : Nat) (at_ : Nat → Nat) : Nat → Nat := fun i => if i ≤ p then at_ i else if i = p + 1 then n else at_ (i - 1)
theorem OrdI.inj {n : Nat} {pos at_ : Nat → Nat} (h : OrdI n pos at_) {s t : Nat} (hs : s < n) (ht : t < n) (e : pos s = pos t) : s = t := by
  rw [← (h.1 s hs).2, ← (h.1 t ht).2, e]
theorem OrdI.ins {n x : Nat} {pos at_ : Nat → Nat} (h : OrdI n pos at_) (hx : x < n) : OrdI (n + 1) (ins n x pos) (insA n (pos x) at_) := by
  have hp := (h.1 x hx).1
  refine ⟨fun s hs => ?_, fun i hi => ?_, by rw [ins_old (by omega), if_pos (by rw [h.2.2]; exact Nat.zero_le _)]; exact h.2.2⟩
  · by_cases e : s = n
    · subst e
      rw [ins_new]
      refine ⟨by omega, ?_⟩
      unfold insA
      rw [if_neg (by omega), if_pos rfl]
    · have hs' : s < n := by omega
      have h1 := h.1 s hs'
      rw [ins_old hs']
      by_cases c : pos s ≤ pos x
      · rw [if_pos c]
        refine ⟨by omega, ?_⟩
        unfold insA
        rw [if_pos c]; exact h1.2
      · rw [if_neg c]
        refine ⟨by omega, ?_⟩
        unfold insA
        rw [if_neg (by omega), if_neg (by omega), Nat.add_sub_cancel]; exact h1.2
  · unfold insA
    by_cases c : i ≤ pos x
    · rw [if_pos c]
      have h2 := h.2.1 i (by omega)
      refine ⟨by omega, ?_⟩
      rw [ins_old h2.1, h2.2, if_pos c]
    · rw [if_neg c]
      by_cases c2 : i = pos x + 1
      · rw [if_pos c2]
        refine ⟨by omega, ?_⟩
        rw [ins_new, c2]
      · rw [if_neg c2]
        have h2 := h.2.1 (i - 1) (by omega)
        refine ⟨by omega, ?_⟩
        rw [ins_old h2.1, h2.2, if_neg (by omega)]
        omega
/-- the row as the class has it -/
def BhI (n : Nat) (at_ : Nat → Nat) (bh : Nat → Int32) : Prop := ∀ i, i < n → bh (at_ i) = if i + 1 = n then -1 else nI (at_ (i + 1))
theorem BhI.ins {n x : Nat} {pos at_ : Nat → Nat} {bh : Nat → Int32} (h : OrdI n pos at_) (hb : BhI n at_ bh) (hx : x < n) : BhI (n + 1) (insA n (pos x) at_) (u1 (u1 bh n (bh x)) x (nI n)) := by
  have hp := h.1 x hx
  intro i hi
  have hne : ∀ j, j < n → j ≠ pos x → at_ j ≠ x := fun j hj hj2 e => hj2 (by rw [← e]; exact (h.2.1 j hj).2.symm)
  by_cases c : i ≤ pos x
  · have e1 : insA n (pos x) at_ i = at_ i := if_pos c
    by_cases c2 : i = pos x
    · have e2 : insA n (pos x) at_ (i + 1) = n := by unfold insA; rw [if_neg (by omega), if_pos (by omega)]
      rw [e1, e2, c2, hp.2, u1_s, if_neg (by omega)]
    · have e2 : insA n (pos x) at_ (i + 1) = at_ (i + 1) := if_pos (by omega)
      have := (h.2.1 i (by omega)).1
      rw [e1, e2, u1_n (hne i (by omega) c2), u1_n (by omega), hb i (by omega), if_neg (by omega), if_neg (by omega)]
  · by_cases c2 : i = pos x + 1
    · have e1 : insA n (pos x) at_ i = n := by unfold insA; rw [if_neg c, if_pos c2]
      have e2 : insA n (pos x) at_ (i + 1) = at_ i := by unfold insA; rw [if_neg (by omega), if_neg (by omega), Nat.add_sub_cancel]
      have h3 := hb (pos x) hp.1
      rw [hp.2] at h3
      rw [e1, e2, u1_n (by omega), u1_s, h3, c2]
      by_cases c3 : pos x + 1 = n
      · rw [if_pos c3, if_pos (by omega)]
      · rw [if_neg c3, if_neg (by omega)]
    · have e1 : insA n (pos x) at_ i = at_ (i - 1) := by unfold insA; rw [if_neg c, if_neg c2]
      have e2 : insA n (pos x) at_ (i + 1) = at_ i := by unfold insA; rw [if_neg (by omega), if_neg (by omega), Nat.add_sub_cancel]
      have := (h.2.1 (i - 1) (by omega)).1
      rw [e1, e2, u1_n (hne (i - 1) (by omega) (by omega)), u1_n (by omega), hb (i - 1) (by omega), show i - 1 + 1 = i by omega]
      by_cases c3 : i = n
      · rw [if_pos c3, if_pos (by omega)]
      · rw [if_neg c3, if_neg (by omega)]
/-! FRAMES: st = the strand at which a frame began, isF = whether it was forked, fe = the last strand of what it forked first, jn = what its next join takes in -/
def lim_ (n d : Nat) (st : Nat → Nat) (isF : Nat → Bool) (k : Nat) : Nat := if k + 1 < d then (if isF (k + 1) = true then st (k + 1) - 1 else st (k + 1)) else n - 1
def FrI (n d : Nat) (pos st : Nat → Nat) (isF : Nat → Bool) (fe : Nat → Option Nat) (jn : Nat → Nat → Prop) : Prop :=
  (∀ k, k < d → st k < n) ∧
  (∀ k, k + 1 < d → st k ≤ st (k + 1) ∧ (isF (k + 1) = true → st k < st (k + 1))) ∧
  (∀ k, k < d → ∀ t, t < n → st k ≤ t → pos (st k) ≤ pos t ∧ ∀ s, s < st k → (pos s < pos t ↔ pos s < pos (st k))) ∧
  (∀ k, k < d → isF k = true → ∀ s, s < st k → (pos s < pos (st k) ↔ pos s ≤ pos (st k - 1))) ∧
  (∀ k, k < d → ∀ e, fe k = some e → st k ≤ e ∧ e < lim_ n d st isF k ∧ (∀ t, t < n → e < t → pos t < pos e) ∧ (∀ s, jn k s → s < n ∧ pos s ≤ pos e) ∧ ∀ s, s ≤ e → pos s ≤ pos e → jn k s) ∧
  (∀ k, k < d → fe k = none → ∀ s, ¬ jn k s) ∧
  (∀ k, k < d → ∀ t, st k ≤ t → t ≤ lim_ n d st isF k → pos t ≤ pos (lim_ n d st isF k) ∨ jn k t)
section FR
variable {n d : Nat} {pos at_ st : Nat → Nat} {isF : Nat → Bool} {fe : Nat → Option Nat} {jn : Nat → Nat → Prop}
theorem FrI.mono (h : FrI n d pos st isF fe jn) {j k : Nat} (hk : k < d) (hj : j ≤ k) : st j ≤ st k := by
  induction k with
  | zero => rw [Nat.le_zero.mp hj]; exact Nat.le_refl _
  | succ k ih =>
    by_cases e : j = k + 1
    · rw [e]; exact Nat.le_refl _
    · exact Nat.le_trans (ih (by omega) (by omega)) (h.2.1 k hk).1
theorem lim_top {k : Nat} (hk : k + 1 = d) : lim_ n d st isF k = n - 1 := if_neg (by omega)
theorem FrI.lim_ge (h : FrI n d pos st isF fe jn) {k : Nat} (hk : k < d) : st k ≤ lim_ n d st isF k ∧ lim_ n d st isF k < n := by
  have h0 := h.1 k hk
  unfold lim_
  by_cases c : k + 1 < d
  · have h1 := h.1 (k + 1) c
    have h2 := h.2.1 k c
    rw [if_pos c]
    by_cases c2 : isF (k + 1) = true
    · rw [if_pos c2]; have := h2.2 c2; omega
    · rw [if_neg c2]; omega
  · rw [if_neg c]; omega
theorem FrI.lim_le (h : FrI n d pos st isF fe jn) {j k : Nat} (hk : k < d) (hj : j < k) : lim_ n d st isF j ≤ st k := by
  have h1 := h.mono hk (show j + 1 ≤ k by omega)
  unfold lim_
  rw [if_pos (by omega)]
  split <;> omega
/-- a join's strand: what is before it -/
theorem FrI.joined (h : FrI n d pos st isF fe jn) (hd : 0 < d) {e : Nat} (he : fe (d - 1) = some e) {s : Nat} (hs : s < n) : (pos s ≤ pos (n - 1) ∨ jn (d - 1) s) ↔ pos s ≤ pos e := by
  obtain ⟨h1, h2, h3, h4, h5, h6, h7⟩ := h
  obtain ⟨a1, a2, a3, a4, a5⟩ := h5 (d - 1) (by omega) e he
  rw [lim_top (by omega)] at a2
  have h8 := h7 (d - 1) (by omega) s
  rw [lim_top (by omega)] at h8
  have h9 := a3 (n - 1) (by omega) a2
  constructor
  · rintro (c | c)
    · omega
    · exact (a4 s c).2
  · intro c
    by_cases c2 : s ≤ e
    · exact Or.inr (a5 s c2 c)
    · exact h8 (by omega) (by omega)
/-- a call -/
theorem FrI.call (h : FrI n d pos st isF fe jn) (hn : 0 < n) : FrI n (d + 1) pos (u1 st d (n - 1)) (u1 isF d false) (u1 fe d none) (u1 jn d fun _ => False) := by
  have hh := h
  obtain ⟨h1, h2, h3, h4, h5, h6, h7⟩ := h
  have hl : ∀ k, k < d → lim_ n (d + 1) (u1 st d (n - 1)) (u1 isF d false) k = lim_ n d st isF k := by
    intro k hk
    unfold lim_
    by_cases c : k + 1 < d
    · rw [if_pos c, if_pos (by omega), u1_n (by omega), u1_n (by omega)]
    · have e : k + 1 = d := by omega
      rw [if_neg c, if_pos (by omega), e, u1_s, u1_s, if_neg (by decide)]
  refine ⟨fun k hk => ?_, fun k hk => ?_, fun k hk t ht hst => ?_, fun k hk hf s hs => ?_, fun k hk e he => ?_, fun k hk he => ?_, fun k hk t ht ht2 => ?_⟩
  · by_cases c : k = d
    · rw [c, u1_s]; omega
    · rw [u1_n c]; exact h1 k (by omega)
  · by_cases c : k + 1 = d
    · rw [c, u1_s, u1_s, u1_n (by omega)]
      have := h1 k (by omega)
      exact ⟨by omega, fun q => absurd q (by decide)⟩
    · rw [u1_n c, u1_n c, u1_n (by omega)]; exact h2 k (by omega)
  · by_cases c : k = d
    · rw [c, u1_s] at hst ⊢
      have e : t = n - 1 := by omega
      rw [e]; exact ⟨Nat.le_refl _, fun _ _ => Iff.rfl⟩
    · rw [u1_n c] at hst ⊢; exact h3 k (by omega) t ht hst
  · by_cases c : k = d
    · rw [c, u1_s] at hf; cases hf
    · rw [u1_n c] at hf hs ⊢; exact h4 k (by omega) hf s hs
  · by_cases c : k = d
    · rw [c, u1_s] at he; cases he
    · rw [u1_n c] at he
      rw [u1_n c, u1_n c, hl k (by omega)]
      exact h5 k (by omega) e he
  · by_cases c : k = d
    · rw [c, u1_s]; exact fun _ q => q
    · rw [u1_n c] at he ⊢; exact h6 k (by omega) he
  · by_cases c : k = d
    · rw [c, u1_s] at ht
      rw [c, lim_top rfl] at ht2 ⊢
      have e : t = n - 1 := by omega
      rw [e]; exact Or.inl (Nat.le_refl _)
    · rw [u1_n c] at ht ⊢
      rw [hl k (by omega)] at ht2 ⊢
      exact h7 k (by omega) t ht ht2
/-- a fork: a strand behind the current one -/
theorem FrI.fork (h : FrI n d pos st isF fe jn) (hO : OrdI n pos at_) (hd : 0 < d) : FrI (n + 1) (d + 1) (ins n (n - 1) pos) (u1 st d n) (u1 isF d true) (u1 fe d none) (u1 jn d fun _ => False) := by
  have hh := h
  obtain ⟨h1, h2, h3, h4, h5, h6, h7⟩ := h
  have hn : 0 < n := by have := h1 0 hd; omega
  have hl : ∀ k, k < d → lim_ (n + 1) (d + 1) (u1 st d n) (u1 isF d true) k = lim_ n d st isF k := by
    intro k hk
    unfold lim_
    by_cases c : k + 1 < d
    · rw [if_pos c, if_pos (by omega), u1_n (by omega), u1_n (by omega)]
    · have e : k + 1 = d := by omega
      rw [if_neg c, if_pos (by omega), e, u1_s, u1_s, if_pos rfl]
  refine ⟨fun k hk => ?_, fun k hk => ?_, fun k hk t ht hst => ?_, fun k hk hf s hs => ?_, fun k hk e he => ?_, fun k hk he => ?_, fun k hk t ht ht2 => ?_⟩
  · by_cases c : k = d
    · rw [c, u1_s]; omega
    · rw [u1_n c]; have := h1 k (by omega); omega
  · by_cases c : k + 1 = d
    · rw [c, u1_s, u1_s, u1_n (by omega)]
      have := h1 k (by omega)
      exact ⟨by omega, fun _ => by omega⟩
    · rw [u1_n c, u1_n c, u1_n (by omega)]; exact h2 k (by omega)
  · by_cases c : k = d
    · rw [c, u1_s] at hst ⊢
      have e : t = n := by omega
      rw [e]; exact ⟨Nat.le_refl _, fun _ _ => Iff.rfl⟩
    · rw [u1_n c] at hst ⊢
      have hk1 := h1 k (by omega)
      by_cases ct : t = n
      · have h8 := h3 k (by omega) (n - 1) (by omega) (by omega)
        rw [ct]
        refine ⟨(ins_len hk1).mpr h8.1, fun s hs => ?_⟩
        rw [ins_ln (by omega), ins_lt (by omega) hk1, ← h8.2 s hs]
        constructor
        · intro q
          by_cases q2 : pos s = pos (n - 1)
          · have := hO.inj (by omega) (by omega) q2; omega
          · omega
        · omega
      · have h8 := h3 k (by omega) t (by omega) hst
        refine ⟨(ins_le hk1 (by omega)).mpr h8.1, fun s hs => ?_⟩
        rw [ins_lt (by omega) (by omega), ins_lt (by omega) hk1]
        exact h8.2 s hs
  · by_cases c : k = d
    · rw [c, u1_s] at hs ⊢
      rw [ins_ln hs, ins_le hs (by omega)]
    · rw [u1_n c] at hf hs ⊢
      have hk1 := h1 k (by omega)
      rw [ins_lt (by omega) hk1, ins_le (by omega) (by omega)]
      exact h4 k (by omega) hf s hs
  · by_cases c : k = d
    · rw [c, u1_s] at he; cases he
    · rw [u1_n c] at he
      rw [u1_n c, u1_n c, hl k (by omega)]
      obtain ⟨a1, a2, a3, a4, a5⟩ := h5 k (by omega) e he
      have a6 := (hh.lim_ge (k := k) (by omega)).2
      refine ⟨a1, a2, fun t ht hte => ?_, fun s q => ?_, fun s hs q => ?_⟩
      · by_cases ct : t = n
        · rw [ct, ins_nl (by omega)]; exact a3 (n - 1) (by omega) (by omega)
        · rw [ins_lt (by omega) (by omega)]; exact a3 t (by omega) hte
      · have := a4 s q
        refine ⟨by omega, ?_⟩
        rw [ins_le this.1 (by omega)]; exact this.2
      · rw [ins_le (by omega) (by omega)] at q
        exact a5 s hs q
  · by_cases c : k = d
    · rw [c, u1_s]; exact fun _ q => q
    · rw [u1_n c] at he ⊢; exact h6 k (by omega) he
  · by_cases c : k = d
    · rw [c, u1_s] at ht
      rw [c, lim_top rfl] at ht2 ⊢
      have e : t = n := by omega
      rw [e]; exact Or.inl (Nat.le_refl _)
    · rw [u1_n c] at ht ⊢
      rw [hl k (by omega)] at ht2 ⊢
      have a6 := (hh.lim_ge (k := k) (by omega)).2
      rw [ins_le (by omega) (by omega)]
      exact h7 k (by omega) t ht ht2
/-- a join of the frame on top: a strand behind fe -/
theorem FrI.join (h : FrI n d pos st isF fe jn) (hO : OrdI n pos at_) (hd : 0 < d) {e : Nat} (he : fe (d - 1) = some e) : FrI (n + 1) d (ins n e pos) st isF (u1 fe (d - 1) none) (u1 jn (d - 1) fun _ => False) := by
  have hh := h
  obtain ⟨h1, h2, h3, h4, h5, h6, h7⟩ := h
  obtain ⟨e1, e2, e3, e4, e5⟩ := h5 (d - 1) (by omega) e he
  rw [lim_top (by omega)] at e2
  have hl : ∀ k, k < d - 1 → lim_ (n + 1) d st isF k = lim_ n d st isF k := by
    intro k hk
    unfold lim_
    rw [if_pos (show k + 1 < d by omega), if_pos (show k + 1 < d by omega)]
  refine ⟨fun k hk => ?_, h2, fun k hk t ht hst => ?_, fun k hk hf s hs => ?_, fun k hk e' he' => ?_, fun k hk he => ?_, fun k hk t ht ht2 => ?_⟩
  · have := h1 k hk; omega
  · have hk1 := h1 k hk
    have hk2 := hh.mono (j := k) (k := d - 1) (by omega) (by omega)
    by_cases ct : t = n
    · have h8 := h3 k hk e (by omega) (by omega)
      rw [ct]
      refine ⟨(ins_len hk1).mpr h8.1, fun s hs => ?_⟩
      rw [ins_ln (by omega), ins_lt (by omega) hk1, ← h8.2 s hs]
      have h9 := h8.2 s hs
      have h10 := h8.1
      constructor
      · intro q
        by_cases q2 : pos s = pos e
        · have := hO.inj (by omega) (by omega) q2; omega
        · omega
      · omega
    · have h8 := h3 k hk t (by omega) hst
      refine ⟨(ins_le hk1 (by omega)).mpr h8.1, fun s hs => ?_⟩
      rw [ins_lt (by omega) (by omega), ins_lt (by omega) hk1]
      exact h8.2 s hs
  · have hk1 := h1 k hk
    rw [ins_lt (by omega) hk1, ins_le (by omega) (by omega)]
    exact h4 k hk hf s hs
  · by_cases c : k = d - 1
    · rw [c, u1_s] at he'; cases he'
    · rw [u1_n c] at he'
      rw [u1_n c, hl k (by omega)]
      obtain ⟨a1, a2, a3, a4, a5⟩ := h5 k hk e' he'
      have a6 := (hh.lim_ge hk).2
      have a7 := hh.lim_le (j := k) (k := d - 1) (by omega) (by omega)
      refine ⟨a1, a2, fun t ht hte => ?_, fun s q => ?_, fun s hs q => ?_⟩
      · by_cases ct : t = n
        · rw [ct, ins_nl (by omega)]; exact a3 e (by omega) (by omega)
        · rw [ins_lt (by omega) (by omega)]; exact a3 t (by omega) hte
      · have := a4 s q
        refine ⟨by omega, ?_⟩
        rw [ins_le this.1 (by omega)]; exact this.2
      · rw [ins_le (by omega) (by omega)] at q
        exact a5 s hs q
  · by_cases c : k = d - 1
    · rw [c, u1_s]; exact fun _ q => q
    · rw [u1_n c] at he ⊢; exact h6 k hk he
  · by_cases c : k = d - 1
    · rw [c] at ht ht2 ⊢
      rw [lim_top (by omega)] at ht2 ⊢
      rw [u1_s]
      left
      rw [Nat.add_sub_cancel] at ht2 ⊢
      by_cases ct : t = n
      · rw [ct]; exact Nat.le_refl _
      · rw [ins_len (by omega)]
        have h8 := h7 (d - 1) (by omega) t ht
        rw [lim_top (by omega)] at h8
        rcases h8 (by omega) with q | q
        · have := e3 (n - 1) (by omega) e2; omega
        · exact (e4 t q).2
    · rw [u1_n c]
      rw [hl k (by omega)] at ht2 ⊢
      have a6 := (hh.lim_ge hk).2
      rw [ins_le (by omega) (by omega)]
      exact h7 k hk t ht ht2
/-- the end of a frame that was called -/
theorem FrI.ret (h : FrI n d pos st isF fe jn) (hd : 1 < d) (hf : isF (d - 1) = false) (he : fe (d - 1) = none) : FrI n (d - 1) pos st isF fe jn := by
  have hh := h
  obtain ⟨h1, h2, h3, h4, h5, h6, h7⟩ := h
  have hl : ∀ k, k < d - 2 → lim_ n (d - 1) st isF k = lim_ n d st isF k := by
    intro k hk
    unfold lim_
    rw [if_pos (show k + 1 < d - 1 by omega), if_pos (show k + 1 < d by omega)]
  have hl2 : lim_ n d st isF (d - 2) = st (d - 1) := by
    unfold lim_
    rw [if_pos (by omega), show d - 2 + 1 = d - 1 by omega, if_neg (by rw [hf]; decide)]
  have hs1 := h1 (d - 1) (by omega)
  refine ⟨fun k hk => h1 k (by omega), fun k hk => h2 k (by omega), fun k hk => h3 k (by omega), fun k hk => h4 k (by omega), fun k hk e q => ?_, fun k hk => h6 k (by omega), fun k hk t ht ht2 => ?_⟩
  · by_cases c : k = d - 2
    · obtain ⟨a1, a2, a3⟩ := h5 k (by omega) e q
      rw [c, hl2] at a2
      rw [c, lim_top (by omega)]
      rw [c] at a1 a3
      exact ⟨a1, by omega, a3⟩
    · rw [hl k (by omega)]; exact h5 k (by omega) e q
  · by_cases c : k = d - 2
    · rw [c] at ht ht2 ⊢
      rw [lim_top (by omega)] at ht2 ⊢
      have b1 := h3 (d - 1) (by omega) (n - 1) (by omega) (by omega)
      by_cases ct : t ≤ st (d - 1)
      · rcases h7 (d - 2) (by omega) t ht (by rw [hl2]; exact ct) with q | q
        · rw [hl2] at q; left; have := b1.1; omega
        · exact Or.inr q
      · have b2 := h7 (d - 1) (by omega) t (by omega)
        rw [lim_top (by omega)] at b2
        rcases b2 ht2 with q | q
        · exact Or.inl q
        · exact absurd q (h6 (d - 1) (by omega) he t)
    · rw [hl k (by omega)] at ht2 ⊢
      exact h7 k (by omega) t ht ht2
/-- the end of a frame that was forked: the one that forked it goes on in a strand behind that of the fork -/
theorem FrI.leave (h : FrI n d pos st isF fe jn) (hO : OrdI n pos at_) (hd : 1 < d) (hf : isF (d - 1) = true) (he : fe (d - 1) = none) :
    FrI (n + 1) (d - 1) (ins n (st (d - 1) - 1) pos) st isF (u1 fe (d - 2) (some ((fe (d - 2)).getD (n - 1)))) (u1 jn (d - 2) fun s => jn (d - 2) s ∨ s < n ∧ pos s ≤ pos (n - 1)) := by
  have hh := h
  obtain ⟨h1, h2, h3, h4, h5, h6, h7⟩ := h
  have hl : ∀ k, k < d - 2 → lim_ (n + 1) (d - 1) st isF k = lim_ n d st isF k := by
    intro k hk
    unfold lim_
    rw [if_pos (show k + 1 < d - 1 by omega), if_pos (show k + 1 < d by omega)]
  have hl2 : lim_ n d st isF (d - 2) = st (d - 1) - 1 := by
    unfold lim_
    rw [if_pos (by omega), show d - 2 + 1 = d - 1 by omega, if_pos hf]
  have hs1 := h1 (d - 1) (by omega)
  have hs2 := (h2 (d - 2) (by omega)).2 (by rw [show d - 2 + 1 = d - 1 by omega]; exact hf)
  rw [show d - 2 + 1 = d - 1 by omega] at hs2
  have b1 := h3 (d - 1) (by omega) (n - 1) (by omega) (by omega)
  have b2 := (h4 (d - 1) (by omega) hf (st (d - 1) - 1) (by omega)).mpr (Nat.le_refl _)
  refine ⟨fun k hk => ?_, fun k hk => h2 k (by omega), fun k hk t ht hst => ?_, fun k hk hf' s hs => ?_, fun k hk e q => ?_, fun k hk q => ?_, fun k hk t ht ht2 => ?_⟩
  · have := h1 k (by omega); omega
  · have hk1 := h1 k (by omega)
    have hk2 := hh.mono (j := k) (k := d - 2) (by omega) (by omega)
    by_cases ct : t = n
    · have h8 := h3 k (by omega) (st (d - 1) - 1) (by omega) (by omega)
      rw [ct]
      refine ⟨(ins_len hk1).mpr h8.1, fun s hs => ?_⟩
      rw [ins_ln (by omega), ins_lt (by omega) hk1, ← h8.2 s hs]
      have h9 := h8.2 s hs
      have h10 := h8.1
      constructor
      · intro q
        by_cases q2 : pos s = pos (st (d - 1) - 1)
        · have := hO.inj (by omega) (by omega) q2; omega
        · omega
      · omega
    · have h8 := h3 k (by omega) t (by omega) hst
      refine ⟨(ins_le hk1 (by omega)).mpr h8.1, fun s hs => ?_⟩
      rw [ins_lt (by omega) (by omega), ins_lt (by omega) hk1]
      exact h8.2 s hs
  · have hk1 := h1 k (by omega)
    rw [ins_lt (by omega) hk1, ins_le (by omega) (by omega)]
    exact h4 k (by omega) hf' s hs
  · by_cases c : k = d - 2
    · rw [c] at q ⊢
      rw [u1_s] at q ⊢
      rw [lim_top (by omega), Nat.add_sub_cancel]
      cases hu : fe (d - 2) with
      | none =>
        rw [hu] at q
        have q := Option.some.inj q
        simp only [Option.getD_none] at q
        subst q
        refine ⟨by omega, by omega, fun t ht hte => ?_, fun s q => ?_, fun s hs q => ?_⟩
        · have e : t = n := by omega
          rw [e, ins_nl (by omega)]
          have := b1.1; omega
        · rcases q with q | q
          · exact absurd q (h6 (d - 2) (by omega) hu s)
          · refine ⟨by omega, ?_⟩
            rw [ins_le (by omega) (by omega)]; exact q.2
        · rw [ins_le (by omega) (by omega)] at q
          exact Or.inr ⟨by omega, q⟩
      | some e0 =>
        rw [hu] at q
        have q := Option.some.inj q
        simp only [Option.getD_some] at q
        subst q
        obtain ⟨a1, a2, a3, a4, a5⟩ := h5 (d - 2) (by omega) e0 hu
        rw [hl2] at a2
        refine ⟨a1, by omega, fun t ht hte => ?_, fun s q => ?_, fun s hs q => ?_⟩
        · by_cases ct : t = n
          · rw [ct, ins_nl (by omega)]; exact a3 _ (by omega) a2
          · rw [ins_lt (by omega) (by omega)]; exact a3 t (by omega) hte
        · rcases q with q | q
          · have := a4 s q
            refine ⟨by omega, ?_⟩
            rw [ins_le this.1 (by omega)]; exact this.2
          · refine ⟨by omega, ?_⟩
            rw [ins_le (by omega) (by omega)]
            have := a3 (n - 1) (by omega) (by omega)
            omega
        · rw [ins_le (by omega) (by omega)] at q
          exact Or.inl (a5 s hs q)
    · rw [u1_n c] at q
      rw [u1_n c, hl k (by omega)]
      obtain ⟨a1, a2, a3, a4, a5⟩ := h5 k (by omega) e q
      have a6 := (hh.lim_ge (k := k) (by omega)).2
      have a7 := hh.lim_le (j := k) (k := d - 2) (by omega) (by omega)
      refine ⟨a1, a2, fun t ht hte => ?_, fun s q => ?_, fun s hs q => ?_⟩
      · by_cases ct : t = n
        · rw [ct, ins_nl (by omega)]; exact a3 _ (by omega) (by omega)
        · rw [ins_lt (by omega) (by omega)]; exact a3 t (by omega) hte
      · have := a4 s q
        refine ⟨by omega, ?_⟩
        rw [ins_le this.1 (by omega)]; exact this.2
      · rw [ins_le (by omega) (by omega)] at q
        exact a5 s hs q
  · by_cases c : k = d - 2
    · rw [c, u1_s] at q; cases q
    · rw [u1_n c] at q ⊢; exact h6 k (by omega) q
  · by_cases c : k = d - 2
    · rw [c] at ht ht2 ⊢
      rw [lim_top (by omega)] at ht2 ⊢
      rw [u1_s]
      rw [Nat.add_sub_cancel] at ht2 ⊢
      by_cases ct : t = n
      · left; rw [ct]; exact Nat.le_refl _
      · rw [ins_len (by omega)]
        by_cases cu : t ≤ st (d - 1) - 1
        · rcases h7 (d - 2) (by omega) t ht (by rw [hl2]; exact cu) with q | q
          · rw [hl2] at q; exact Or.inl q
          · exact Or.inr (Or.inl q)
        · have b3 := h7 (d - 1) (by omega) t (by omega)
          rw [lim_top (by omega)] at b3
          rcases b3 (by omega) with q | q
          · exact Or.inr (Or.inr ⟨by omega, q⟩)
          · exact absurd q (h6 (d - 1) (by omega) he t)
    · rw [u1_n c]
      rw [hl k (by omega)] at ht2 ⊢
      have a6 := (hh.lim_ge (k := k) (by omega)).2
      rw [ins_le (by omega) (by omega)]
      exact h7 k (by omega) t ht ht2
end FR
