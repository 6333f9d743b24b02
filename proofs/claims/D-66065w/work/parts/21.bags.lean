set_option maxRecDepth 100000
/-! BAGS. Elements lie in each other (W); root: the uppermost one, dp: how far it is -/
def UfI (ne n : Nat) (W root dp : Nat → Nat) : Prop := ∀ e, e < ne → W e < ne ∧ root e < ne ∧ W (root e) = root e ∧ dp e ≤ n ∧ ((W e = e ∧ root e = e ∧ dp e = 0) ∨ (W e ≠ e ∧ root (W e) = root e ∧ dp e = dp (W e) + 1))
def lnk (root : Nat → Nat) (r b : Nat) : Nat → Nat := fun x => if root x = r then b else root x
def lnkD (root dp : Nat → Nat) (r : Nat) : Nat → Nat := fun x => if root x = r then dp x + 1 else dp x
section UF
variable {ne n r b e : Nat} {W root dp : Nat → Nat}
theorem UfI.rr (h : UfI ne n W root dp) (he : e < ne) : root (root e) = root e := by
  obtain ⟨-, h2, h3, -, -⟩ := h e he
  obtain ⟨-, -, -, -, h5⟩ := h (root e) h2
  rcases h5 with h5 | h5
  · exact h5.2.1
  · exact absurd h3 h5.1
theorem UfI.more (h : UfI ne n W root dp) {n' : Nat} (hn : n ≤ n') : UfI ne n' W root dp := by
  intro e he
  obtain ⟨h1, h2, h3, h4, h5⟩ := h e he
  exact ⟨h1, h2, h3, by omega, h5⟩
theorem UfI.new (h : UfI ne n W root dp) : UfI (ne + 1) n (u1 W ne ne) (u1 root ne ne) (u1 dp ne 0) := by
  intro e he
  by_cases c : e = ne
  · rw [c, u1_s, u1_s, u1_s, u1_s]
    exact ⟨by omega, by omega, rfl, by omega, Or.inl ⟨rfl, rfl, rfl⟩⟩
  · obtain ⟨h1, h2, h3, h4, h5⟩ := h e (by omega)
    rw [u1_n c, u1_n c, u1_n c, u1_n (show root e ≠ ne by omega), u1_n (show W e ≠ ne by omega), u1_n (show W e ≠ ne by omega)]
    exact ⟨by omega, by omega, h3, h4, h5⟩
theorem UfI.link (h : UfI ne n W root dp) (hr : r < ne) (hb : b < ne) (er : root r = r) (eb : root b = b) (hrb : b ≠ r) : UfI ne (n + 1) (u1 W r b) (lnk root r b) (lnkD root dp r) := by
  have hWr : W r = r := by have := (h r hr).2.2.1; rwa [er] at this
  have hWb : W b = b := by have := (h b hb).2.2.1; rwa [eb] at this
  intro e he
  obtain ⟨h1, h2, h3, h4, h5⟩ := h e he
  by_cases c : e = r
  · have e1 : lnk root r b e = b := by unfold lnk; rw [c, if_pos er]
    have e2 : lnk root r b b = b := by unfold lnk; rw [eb, if_neg hrb]
    have e3 : lnkD root dp r e = dp e + 1 := by unfold lnkD; rw [c, if_pos er]
    have e4 : lnkD root dp r b = dp b := by unfold lnkD; rw [eb, if_neg hrb]
    have d1 : dp e = 0 := by
      rcases h5 with h5 | h5
      · exact h5.2.2
      · rw [c] at h5; exact absurd hWr h5.1
    have d2 : dp b = 0 := by
      rcases (h b hb).2.2.2.2 with q | q
      · exact q.2.2
      · exact absurd hWb q.1
    rw [e1, e3, c, u1_s, e2, e4, u1_n hrb, ← c, d1, d2]
    exact ⟨hb, hb, hWb, by omega, Or.inr ⟨by rw [c]; exact hrb, rfl, rfl⟩⟩
  · by_cases cr : root e = r
    · have e1 : lnk root r b e = b := by unfold lnk; rw [if_pos cr]
      have e3 : lnkD root dp r e = dp e + 1 := by unfold lnkD; rw [if_pos cr]
      rw [e1, e3, u1_n c, u1_n hrb]
      refine ⟨h1, hb, hWb, by omega, ?_⟩
      rcases h5 with h5 | h5
      · exact absurd (h5.2.1.symm.trans cr) c
      · have e5 : lnk root r b (W e) = b := by unfold lnk; rw [h5.2.1, if_pos cr]
        have e6 : lnkD root dp r (W e) = dp (W e) + 1 := by unfold lnkD; rw [h5.2.1, if_pos cr]
        rw [e5, e6]
        exact Or.inr ⟨h5.1, rfl, by rw [h5.2.2]⟩
    · have e1 : lnk root r b e = root e := by unfold lnk; rw [if_neg cr]
      have e3 : lnkD root dp r e = dp e := by unfold lnkD; rw [if_neg cr]
      rw [e1, e3, u1_n c, u1_n cr]
      refine ⟨h1, h2, h3, by omega, ?_⟩
      rcases h5 with h5 | h5
      · exact Or.inl h5
      · have e5 : lnk root r b (W e) = root (W e) := by unfold lnk; rw [h5.2.1, if_neg cr]
        have e6 : lnkD root dp r (W e) = dp (W e) := by unfold lnkD; rw [h5.2.1, if_neg cr]
        rw [e5, e6]
        exact Or.inr h5
end UF
/-- what strands' elements lie in: a bag of those behind which the current strand comes, or a bag of those beside it -/
def inS (n d : Nat) (pos st : Nat → Nat) (isF : Nat → Bool) (el root : Nat → Nat) (bes : Nat → Bool) (fel : Nat → Nat) (s : Nat) : Prop :=
  ∃ k, k < d ∧ bes (root (el s)) = false ∧ root (el s) = root (fel k) ∧ st k ≤ s ∧ pos s ≤ pos (n - 1) ∧ ∀ k', k < k' → k' < d → isF k' = true → s < st k'
def inP (n d : Nat) (pos st : Nat → Nat) (fe : Nat → Option Nat) (el root : Nat → Nat) (bes : Nat → Bool) (fbs : Nat → Option Nat) (s : Nat) : Prop :=
  ∃ k b e, k < d ∧ fbs k = some b ∧ fe k = some e ∧ root (el s) = b ∧ bes b = true ∧ st k ≤ s ∧ pos s ≤ pos e ∧ pos (n - 1) < pos s ∧ ∀ k', k < k' → k' < d → s < st k'
def BagI (n d ne : Nat) (pos st : Nat → Nat) (isF : Nat → Bool) (fe : Nat → Option Nat) (el root : Nat → Nat) (bes : Nat → Bool) (fel : Nat → Nat) (fbs : Nat → Option Nat) : Prop :=
  (∀ s, s < n → el s < ne) ∧
  (∀ k, k < d → fel k < ne ∧ bes (root (fel k)) = false ∧ el (lim_ n d st isF k) = fel k) ∧
  (∀ k, k + 1 < d → isF (k + 1) = false → fel (k + 1) = fel k) ∧
  (∀ k k', k < k' → k' < d → isF k' = true → root (fel k) ≠ root (fel k')) ∧
  (∀ k, k < d → (fe k = none ∧ fbs k = none) ∨ ∃ e b, fe k = some e ∧ fbs k = some b ∧ b < ne ∧ root b = b ∧ bes b = true) ∧
  (∀ k k' b, k < d → k' < d → fbs k = some b → fbs k' = some b → k = k') ∧
  (∀ s, s < n → inS n d pos st isF el root bes fel s ∨ inP n d pos st fe el root bes fbs s)
section BG
variable {n d ne : Nat} {pos at_ st : Nat → Nat} {isF : Nat → Bool} {fe : Nat → Option Nat} {jn : Nat → Nat → Prop} {el W root dp : Nat → Nat} {bes : Nat → Bool} {fel : Nat → Nat} {fbs : Nat → Option Nat}
/-- an element lies beside just if its strand does -/
theorem BagI.lies (h : BagI n d ne pos st isF fe el root bes fel fbs) {s : Nat} (hs : s < n) : bes (root (el s)) = true ↔ pos (n - 1) < pos s := by
  rcases h.2.2.2.2.2.2 s hs with ⟨k, -, q, -, -, q2, -⟩ | ⟨k, b, e, -, -, -, q, q1, -, -, q2, -⟩
  · rw [q]; exact ⟨fun c => (by cases c), fun c => by omega⟩
  · rw [q, q1]; exact ⟨fun _ => q2, fun _ => rfl⟩
theorem BagI.call (h : BagI n d ne pos st isF fe el root bes fel fbs) (hF : FrI n d pos st isF fe jn) (hd : 0 < d) (hn : 0 < n) :
    BagI n (d + 1) ne pos (u1 st d (n - 1)) (u1 isF d false) (u1 fe d none) el root bes (u1 fel d (fel (d - 1))) (u1 fbs d none) := by
  obtain ⟨h1, h2, h3, h4, h5, h6, h7⟩ := h
  have hl : ∀ k, k < d → lim_ n (d + 1) (u1 st d (n - 1)) (u1 isF d false) k = lim_ n d st isF k := by
    intro k hk
    unfold lim_
    by_cases c : k + 1 < d
    · rw [if_pos c, if_pos (by omega), u1_n (by omega), u1_n (by omega)]
    · have e : k + 1 = d := by omega
      rw [if_neg c, if_pos (by omega), e, u1_s, u1_s, if_neg (by decide)]
  refine ⟨h1, fun k hk => ?_, fun k hk hf => ?_, fun k k' hk hk' hf => ?_, fun k hk => ?_, fun k k' b hk hk' q q' => ?_, fun s hs => ?_⟩
  · by_cases c : k = d
    · have q := h2 (d - 1) (by omega)
      rw [lim_top (by omega)] at q
      rw [c, u1_s, lim_top rfl]; exact q
    · rw [u1_n c, hl k (by omega)]; exact h2 k (by omega)
  · by_cases c : k + 1 = d
    · rw [c, u1_s, u1_n (by omega), show k = d - 1 by omega]
    · rw [u1_n c] at hf
      rw [u1_n c, u1_n (by omega)]; exact h3 k (by omega) hf
  · by_cases c : k' = d
    · rw [c, u1_s] at hf; cases hf
    · rw [u1_n c] at hf
      rw [u1_n c, u1_n (by omega)]; exact h4 k k' hk (by omega) hf
  · by_cases c : k = d
    · rw [c, u1_s, u1_s]; exact Or.inl ⟨rfl, rfl⟩
    · rw [u1_n c, u1_n c]; exact h5 k (by omega)
  · by_cases c : k = d
    · rw [c, u1_s] at q; cases q
    · by_cases c' : k' = d
      · rw [c', u1_s] at q'; cases q'
      · rw [u1_n c] at q; rw [u1_n c'] at q'
        exact h6 k k' b (by omega) (by omega) q q'
  · rcases h7 s hs with ⟨k, a1, a2, a3, a4, a5, a6⟩ | ⟨k, b, e, a1, a2, a3, a4, a5, a6, a7, a8, a9⟩
    · left
      refine ⟨k, by omega, a2, by rw [u1_n (by omega)]; exact a3, by rw [u1_n (by omega)]; exact a4, a5, fun k' hk hk' hf => ?_⟩
      by_cases c : k' = d
      · rw [c, u1_s] at hf; cases hf
      · rw [u1_n c] at hf ⊢; exact a6 k' hk (by omega) hf
    · right
      refine ⟨k, b, e, by omega, by rw [u1_n (by omega)]; exact a2, by rw [u1_n (by omega)]; exact a3, a4, a5, by rw [u1_n (by omega)]; exact a6, a7, a8, fun k' hk hk' => ?_⟩
      by_cases c : k' = d
      · rw [c, u1_s]
        by_cases c2 : s = n - 1
        · rw [c2] at a8; omega
        · omega
      · rw [u1_n c]; exact a9 k' hk (by omega)
theorem BagI.fork (h : BagI n d ne pos st isF fe el root bes fel fbs) (hF : FrI n d pos st isF fe jn) (hU : UfI ne n W root dp) (hd : 0 < d) (hn : 0 < n) :
    BagI (n + 1) (d + 1) (ne + 1) (ins n (n - 1) pos) (u1 st d n) (u1 isF d true) (u1 fe d none) (u1 el n ne) (u1 root ne ne) (u1 bes ne false) (u1 fel d ne) (u1 fbs d none) := by
  obtain ⟨h1, h2, h3, h4, h5, h6, h7⟩ := h
  have hl : ∀ k, k < d → lim_ (n + 1) (d + 1) (u1 st d n) (u1 isF d true) k = lim_ n d st isF k := by
    intro k hk
    unfold lim_
    by_cases c : k + 1 < d
    · rw [if_pos c, if_pos (by omega), u1_n (by omega), u1_n (by omega)]
    · have e : k + 1 = d := by omega
      rw [if_neg c, if_pos (by omega), e, u1_s, u1_s, if_pos rfl]
  have hr : ∀ x, x < ne → u1 root ne ne x = root x := fun x hx => u1_n (by omega)
  have hb : ∀ x, x < ne → u1 bes ne false (root x) = bes (root x) := fun x hx => u1_n (by have := (hU x hx).2.1; omega)
  refine ⟨fun s hs => ?_, fun k hk => ?_, fun k hk hf => ?_, fun k k' hk hk' hf => ?_, fun k hk => ?_, fun k k' b hk hk' q q' => ?_, fun s hs => ?_⟩
  · by_cases c : s = n
    · rw [c, u1_s]; omega
    · rw [u1_n c]; have := h1 s (by omega); omega
  · by_cases c : k = d
    · rw [c, u1_s, u1_s, u1_s, lim_top rfl, Nat.add_sub_cancel, u1_s]; exact ⟨by omega, rfl, rfl⟩
    · obtain ⟨b1, b2, b3⟩ := h2 k (by omega)
      have b4 := (hF.lim_ge (k := k) (by omega)).2
      rw [u1_n c, hl k (by omega), hr _ b1, hb _ b1, u1_n (by omega)]
      exact ⟨by omega, b2, b3⟩
  · by_cases c : k + 1 = d
    · rw [c, u1_s] at hf; cases hf
    · rw [u1_n c] at hf
      rw [u1_n c, u1_n (by omega)]; exact h3 k (by omega) hf
  · have b1 := (h2 k (by omega)).1
    rw [u1_n (show k ≠ d by omega), hr _ b1]
    by_cases c : k' = d
    · rw [c, u1_s, u1_s]; have := (hU _ b1).2.1; omega
    · rw [u1_n c] at hf
      rw [u1_n c, hr _ (h2 k' (by omega)).1]; exact h4 k k' hk (by omega) hf
  · by_cases c : k = d
    · rw [c, u1_s, u1_s]; exact Or.inl ⟨rfl, rfl⟩
    · rw [u1_n c, u1_n c]
      rcases h5 k (by omega) with q | ⟨e, b, q1, q2, q3, q4, q5⟩
      · exact Or.inl q
      · refine Or.inr ⟨e, b, q1, q2, by omega, by rw [hr b q3]; exact q4, ?_⟩
        have := hb b q3
        rw [q4] at this
        rw [this]; exact q5
  · by_cases c : k = d
    · rw [c, u1_s] at q; cases q
    · by_cases c' : k' = d
      · rw [c', u1_s] at q'; cases q'
      · rw [u1_n c] at q; rw [u1_n c'] at q'
        exact h6 k k' b (by omega) (by omega) q q'
  · by_cases cs : s = n
    · left
      refine ⟨d, by omega, ?_, ?_, ?_, ?_, fun k' _ _ => by omega⟩
      · rw [cs, u1_s, u1_s, u1_s]
      · rw [cs, u1_s, u1_s, u1_s, u1_s]
      · rw [cs, u1_s]; exact Nat.le_refl _
      · rw [cs, Nat.add_sub_cancel]; exact Nat.le_refl _
    · have hs' : s < n := by omega
      have e1 := h1 s hs'
      rcases h7 s hs' with ⟨k, a1, a2, a3, a4, a5, a6⟩ | ⟨k, b, e, a1, a2, a3, a4, a5, a6, a7, a8, a9⟩
      · left
        have b1 := (h2 k a1).1
        refine ⟨k, by omega, ?_, ?_, ?_, ?_, fun k' hk hk' hf => ?_⟩
        · rw [u1_n cs, hr _ e1, hb _ e1]; exact a2
        · rw [u1_n cs, hr _ e1, u1_n (show k ≠ d by omega), hr _ b1]; exact a3
        · rw [u1_n (by omega)]; exact a4
        · rw [Nat.add_sub_cancel, ins_len hs']; exact a5
        · by_cases c : k' = d
          · rw [c, u1_s]; exact hs'
          · rw [u1_n c] at hf ⊢; exact a6 k' hk (by omega) hf
      · right
        obtain ⟨-, f2, -⟩ := hF.2.2.2.2.1 k a1 e a3
        have f3 := (hF.lim_ge a1).2
        have b1 : u1 bes ne false b = bes b := by
          have := hb _ e1
          rwa [a4] at this
        refine ⟨k, b, e, by omega, by rw [u1_n (by omega)]; exact a2, by rw [u1_n (by omega)]; exact a3, by rw [u1_n cs, hr _ e1]; exact a4, by rw [b1]; exact a5, by rw [u1_n (by omega)]; exact a6, ?_, ?_, fun k' hk hk' => ?_⟩
        · rw [ins_le hs' (by omega)]; exact a7
        · rw [Nat.add_sub_cancel, ins_nl hs']; exact a8
        · by_cases c : k' = d
          · rw [c, u1_s]; exact hs'
          · rw [u1_n c]; exact a9 k' hk (by omega)
theorem BagI.join (h : BagI n d ne pos st isF fe el root bes fel fbs) (hF : FrI n d pos st isF fe jn) (hO : OrdI n pos at_) (hU : UfI ne n W root dp) (hd : 0 < d) {e b : Nat} (he : fe (d - 1) = some e) (hbs : fbs (d - 1) = some b) :
    BagI (n + 1) d ne (ins n e pos) st isF (u1 fe (d - 1) none) (u1 el n (fel (d - 1))) (lnk root b (root (fel (d - 1)))) bes fel (u1 fbs (d - 1) none) := by
  obtain ⟨h1, h2, h3, h4, h5, h6, h7⟩ := h
  obtain ⟨e1, e2, e3, e4, e5⟩ := hF.2.2.2.2.1 (d - 1) (by omega) e he
  rw [lim_top (by omega)] at e2
  obtain ⟨b1, b2, b3⟩ : b < ne ∧ root b = b ∧ bes b = true := by
    rcases h5 (d - 1) (by omega) with q | ⟨e', b', q1, q2, q3, q4, q5⟩
    · rw [q.2] at hbs; cases hbs
    · rw [hbs] at q2; cases q2; exact ⟨q3, q4, q5⟩
  have hl : ∀ k, k < d - 1 → lim_ (n + 1) d st isF k = lim_ n d st isF k := by
    intro k hk
    unfold lim_
    rw [if_pos (show k + 1 < d by omega), if_pos (show k + 1 < d by omega)]
  -- roots of frames' elements stay
  have hr : ∀ k, k < d → lnk root b (root (fel (d - 1))) (fel k) = root (fel k) := by
    intro k hk
    unfold lnk
    rw [if_neg]
    intro q
    have := (h2 k hk).2.1
    rw [q, b3] at this
    cases this
  have hcur := e3 (n - 1) (by omega) e2
  refine ⟨fun s hs => ?_, fun k hk => ?_, h3, fun k k' hk hk' hf => ?_, fun k hk => ?_, fun k k' b' hk hk' q q' => ?_, fun s hs => ?_⟩
  · by_cases c : s = n
    · rw [c, u1_s]; exact (h2 _ (by omega)).1
    · rw [u1_n c]; exact h1 s (by omega)
  · obtain ⟨q1, q2, q3⟩ := h2 k hk
    rw [hr k hk]
    refine ⟨q1, q2, ?_⟩
    by_cases c : k = d - 1
    · rw [c, lim_top (by omega), Nat.add_sub_cancel, u1_s]
    · have := (hF.lim_ge hk).2
      rw [hl k (by omega), u1_n (by omega)]; exact q3
  · rw [hr k (by omega), hr k' hk']; exact h4 k k' hk hk' hf
  · by_cases c : k = d - 1
    · rw [c, u1_s, u1_s]; exact Or.inl ⟨rfl, rfl⟩
    · rw [u1_n c, u1_n c]
      rcases h5 k hk with q | ⟨e', b', q1, q2, q3, q4, q5⟩
      · exact Or.inl q
      · refine Or.inr ⟨e', b', q1, q2, q3, ?_, q5⟩
        unfold lnk
        rw [q4, if_neg]
        intro q
        rw [q] at q2
        exact c (h6 k (d - 1) b hk (by omega) q2 hbs)
  · by_cases c : k = d - 1
    · rw [c, u1_s] at q; cases q
    · by_cases c' : k' = d - 1
      · rw [c', u1_s] at q'; cases q'
      · rw [u1_n c] at q; rw [u1_n c'] at q'
        exact h6 k k' b' hk hk' q q'
  · by_cases cs : s = n
    · left
      refine ⟨d - 1, by omega, ?_, ?_, ?_, ?_, fun k' _ _ => by omega⟩
      · rw [cs, u1_s, hr _ (by omega)]; exact (h2 _ (by omega)).2.1
      · rw [cs, u1_s]
      · have := hF.1 (d - 1) (by omega); omega
      · rw [cs, Nat.add_sub_cancel]; exact Nat.le_refl _
    · have hs' : s < n := by omega
      rcases h7 s hs' with ⟨k, a1, a2, a3, a4, a5, a6⟩ | ⟨k, b', e', a1, a2, a3, a4, a5, a6, a7, a8, a9⟩
      · left
        have r1 : lnk root b (root (fel (d - 1))) (el s) = root (el s) := by
          unfold lnk
          rw [if_neg]
          intro q
          rw [q, b3] at a2
          cases a2
        refine ⟨k, a1, ?_, ?_, a4, ?_, a6⟩
        · rw [u1_n cs, r1]; exact a2
        · rw [u1_n cs, r1, hr k a1]; exact a3
        · rw [Nat.add_sub_cancel, ins_len hs']; omega
      · by_cases c : k = d - 1
        · left
          rw [c] at a2 a3 a6
          rw [hbs] at a2
          rw [he] at a3
          have a2 := Option.some.inj a2
          have a3 := Option.some.inj a3
          subst a2 a3
          have r1 : lnk root b (root (fel (d - 1))) (el s) = root (fel (d - 1)) := by unfold lnk; rw [if_pos a4]
          refine ⟨d - 1, by omega, ?_, ?_, a6, ?_, fun k' _ _ => by omega⟩
          · rw [u1_n cs, r1]; exact (h2 _ (by omega)).2.1
          · rw [u1_n cs, r1, hr _ (by omega)]
          · rw [Nat.add_sub_cancel, ins_len hs']; exact a7
        · right
          have r1 : lnk root b (root (fel (d - 1))) (el s) = b' := by
            unfold lnk
            rw [a4, if_neg]
            intro q
            rw [q] at a2
            exact c (h6 k (d - 1) b a1 (by omega) a2 hbs)
          have s1 := a9 (d - 1) (by omega) (by omega)
          obtain ⟨-, f2, -⟩ := hF.2.2.2.2.1 k a1 e' a3
          have f3 := (hF.lim_ge a1).2
          have g1 := (hF.2.2.1 (d - 1) (by omega) e (by omega) e1).2 s s1
          have g2 := (hF.2.2.1 (d - 1) (by omega) (n - 1) (by omega) (by omega)).2 s s1
          have g3 : pos s ≠ pos e := fun q => by have := hO.inj hs' (by omega) q; omega
          refine ⟨k, b', e', a1, by rw [u1_n c]; exact a2, by rw [u1_n c]; exact a3, by rw [u1_n cs]; exact r1, a5, a6, ?_, ?_, a9⟩
          · rw [ins_le hs' (by omega)]; exact a7
          · rw [Nat.add_sub_cancel, ins_nl hs']; omega
theorem BagI.ret (h : BagI n d ne pos st isF fe el root bes fel fbs) (hF : FrI n d pos st isF fe jn) (hd : 1 < d) (hf : isF (d - 1) = false) (he : fe (d - 1) = none) : BagI n (d - 1) ne pos st isF fe el root bes fel fbs := by
  obtain ⟨h1, h2, h3, h4, h5, h6, h7⟩ := h
  have hl : ∀ k, k < d - 2 → lim_ n (d - 1) st isF k = lim_ n d st isF k := by
    intro k hk
    unfold lim_
    rw [if_pos (show k + 1 < d - 1 by omega), if_pos (show k + 1 < d by omega)]
  have hfe := h3 (d - 2) (by omega) (by rw [show d - 2 + 1 = d - 1 by omega]; exact hf)
  rw [show d - 2 + 1 = d - 1 by omega] at hfe
  refine ⟨h1, fun k hk => ?_, fun k hk => h3 k (by omega), fun k k' hk hk' => h4 k k' hk (by omega), fun k hk => h5 k (by omega), fun k k' b hk hk' => h6 k k' b (by omega) (by omega), fun s hs => ?_⟩
  · obtain ⟨q1, q2, q3⟩ := h2 k (by omega)
    refine ⟨q1, q2, ?_⟩
    by_cases c : k = d - 2
    · have := (h2 (d - 1) (by omega)).2.2
      rw [lim_top (by omega)] at this
      rw [c, lim_top (by omega), this, hfe]
    · rw [hl k (by omega)]; exact q3
  · rcases h7 s hs with ⟨k, a1, a2, a3, a4, a5, a6⟩ | ⟨k, b, e, a1, a2, a3, a4, a5, a6, a7, a8, a9⟩
    · left
      by_cases c : k = d - 1
      · have := hF.mono (j := d - 2) (k := d - 1) (by omega) (by omega)
        rw [c] at a3 a4
        rw [hfe] at a3
        exact ⟨d - 2, by omega, a2, a3, by omega, a5, fun k' _ _ => by omega⟩
      · exact ⟨k, by omega, a2, a3, a4, a5, fun k' q1 q2 => a6 k' q1 (by omega)⟩
    · right
      have c : k ≠ d - 1 := by
        intro c
        rw [c, he] at a3
        cases a3
      exact ⟨k, b, e, by omega, a2, a3, a4, a5, a6, a7, a8, fun k' q1 q2 => a9 k' q1 (by omega)⟩
/-- the root of what is over, and the bag that takes it -/
theorem BagI.leave (h : BagI n d ne pos st isF fe el root bes fel fbs) (hF : FrI n d pos st isF fe jn) (hO : OrdI n pos at_) (hU : UfI ne n W root dp) (hd : 1 < d) (hf : isF (d - 1) = true) (he : fe (d - 1) = none) {r b' : Nat} {root' : Nat → Nat} (hr : r = root (fel (d - 1)))
    (hb : (fbs (d - 2) = none ∧ b' = r ∧ root' = root) ∨ (fbs (d - 2) = some b' ∧ root' = lnk root r b')) :
    BagI (n + 1) (d - 1) ne (ins n (st (d - 1) - 1) pos) st isF (u1 fe (d - 2) (some ((fe (d - 2)).getD (n - 1)))) (u1 el n (fel (d - 2))) root' (u1 bes r true) fel (u1 fbs (d - 2) (some b')) := by
  obtain ⟨h1, h2, h3, h4, h5, h6, h7⟩ := h
  have hl : ∀ k, k < d - 2 → lim_ (n + 1) (d - 1) st isF k = lim_ n d st isF k := by
    intro k hk
    unfold lim_
    rw [if_pos (show k + 1 < d - 1 by omega), if_pos (show k + 1 < d by omega)]
  have hl2 : lim_ n d st isF (d - 2) = st (d - 1) - 1 := by
    unfold lim_
    rw [if_pos (by omega), show d - 2 + 1 = d - 1 by omega, if_pos hf]
  have hs1 := hF.1 (d - 1) (by omega)
  have hs2 := (hF.2.1 (d - 2) (by omega)).2 (by rw [show d - 2 + 1 = d - 1 by omega]; exact hf)
  rw [show d - 2 + 1 = d - 1 by omega] at hs2
  have c1 := hF.2.2.1 (d - 1) (by omega) (n - 1) (by omega) (by omega)
  have c2 := (hF.2.2.2.1 (d - 1) (by omega) hf (st (d - 1) - 1) (by omega)).mpr (Nat.le_refl _)
  have hrn : r < ne := by rw [hr]; exact (hU _ (h2 (d - 1) (by omega)).1).2.1
  have hrr : root r = r := by rw [hr]; exact hU.rr (h2 (d - 1) (by omega)).1
  have hbr : bes r = false := by rw [hr]; exact (h2 (d - 1) (by omega)).2.1
  have hx : ∀ x, root x ≠ r → root' x = root x := by
    intro x hx
    rcases hb with q | q
    · rw [q.2.2]
    · rw [q.2]; unfold lnk; rw [if_neg hx]
  have hx2 : ∀ x, root x = r → root' x = b' := by
    intro x hx
    rcases hb with q | q
    · rw [q.2.2, q.2.1]; exact hx
    · rw [q.2]; unfold lnk; rw [if_pos hx]
  have hnr : ∀ k, k < d - 1 → root (fel k) ≠ r := fun k hk => by rw [hr]; exact h4 k (d - 1) hk (by omega) hf
  have hbt : ∀ x, bes x = true → u1 bes r true x = true := by
    intro x hx
    by_cases c : x = r
    · rw [c, u1_s]
    · rw [u1_n c]; exact hx
  have hb' : b' < ne ∧ root' b' = b' ∧ u1 bes r true b' = true := by
    rcases hb with q | q
    · rw [q.2.1, q.2.2]; exact ⟨hrn, hrr, u1_s⟩
    · rcases h5 (d - 2) (by omega) with q2 | ⟨e2, b2, q1, q2, q3, q4, q5⟩
      · rw [q2.2] at q; cases q.1
      · rw [q.1] at q2
        have q2 := Option.some.inj q2
        subst q2
        refine ⟨q3, ?_, hbt _ q5⟩
        rw [hx _ (by rw [q4]; intro c; rw [c, hbr] at q5; cases q5)]; exact q4
  refine ⟨fun s hs => ?_, fun k hk => ?_, fun k hk => h3 k (by omega), fun k k' hk hk' q => ?_, fun k hk => ?_, fun k k' b hk hk' q q' => ?_, fun s hs => ?_⟩
  · by_cases c : s = n
    · rw [c, u1_s]; exact (h2 _ (by omega)).1
    · rw [u1_n c]; exact h1 s (by omega)
  · obtain ⟨q1, q2, q3⟩ := h2 k (by omega)
    rw [hx _ (hnr k hk), u1_n (hnr k hk)]
    refine ⟨q1, q2, ?_⟩
    by_cases c : k = d - 2
    · rw [c, lim_top (by omega), Nat.add_sub_cancel, u1_s]
    · have := (hF.lim_ge (k := k) (by omega)).2
      rw [hl k (by omega), u1_n (by omega)]; exact q3
  · rw [hx _ (hnr k (by omega)), hx _ (hnr k' hk')]; exact h4 k k' hk (by omega) q
  · by_cases c : k = d - 2
    · rw [c, u1_s, u1_s]; exact Or.inr ⟨_, b', rfl, rfl, hb'⟩
    · rw [u1_n c, u1_n c]
      rcases h5 k (by omega) with q | ⟨e', b2, q1, q2, q3, q4, q5⟩
      · exact Or.inl q
      · refine Or.inr ⟨e', b2, q1, q2, q3, ?_, hbt _ q5⟩
        rw [hx _ (by rw [q4]; intro c; rw [c, hbr] at q5; cases q5)]; exact q4
  · -- two frames with one bag
    have key : ∀ j, j < d - 1 → j ≠ d - 2 → fbs j ≠ some b' := by
      intro j hj hj2 q2
      rcases hb with q3 | q3
      · rcases h5 j (by omega) with q4 | ⟨e', b2, p1, p2, p3, p4, p5⟩
        · rw [q4.2] at q2; cases q2
        · rw [q2] at p2
          have p2 := Option.some.inj p2
          rw [← p2, q3.2.1, hbr] at p5
          cases p5
      · exact hj2 (h6 j (d - 2) b' (by omega) (by omega) q2 q3.1)
    by_cases c : k = d - 2
    · by_cases c' : k' = d - 2
      · omega
      · rw [c, u1_s] at q; rw [u1_n c'] at q'
        rw [← Option.some.inj q] at q'
        exact absurd q' (key k' hk' c')
    · by_cases c' : k' = d - 2
      · rw [c', u1_s] at q'; rw [u1_n c] at q
        rw [← Option.some.inj q'] at q
        exact absurd q (key k hk c)
      · rw [u1_n c] at q; rw [u1_n c'] at q'
        exact h6 k k' b (by omega) (by omega) q q'
  · by_cases cs : s = n
    · left
      refine ⟨d - 2, by omega, ?_, ?_, ?_, ?_, fun k' _ _ => by omega⟩
      · rw [cs, u1_s, hx _ (hnr _ (by omega)), u1_n (hnr _ (by omega))]; exact (h2 _ (by omega)).2.1
      · rw [cs, u1_s]
      · have := hF.1 (d - 2) (by omega); omega
      · rw [cs, Nat.add_sub_cancel]; exact Nat.le_refl _
    · have hs' : s < n := by omega
      rcases h7 s hs' with ⟨k, a1, a2, a3, a4, a5, a6⟩ | ⟨k, b, e, a1, a2, a3, a4, a5, a6, a7, a8, a9⟩
      · by_cases c : k = d - 1
        · right
          rw [c] at a3 a4
          rw [← hr] at a3
          have p1 := (hF.2.2.1 (d - 1) (by omega) s hs' a4).1
          refine ⟨d - 2, b', (fe (d - 2)).getD (n - 1), by omega, u1_s, u1_s, by rw [u1_n cs]; exact hx2 _ a3, hb'.2.2, by omega, ?_, ?_, fun k' _ _ => by omega⟩
          · cases hu : fe (d - 2) with
            | none =>
              simp only [Option.getD_none]
              rw [ins_le hs' (by omega)]; exact a5
            | some e0 =>
              simp only [Option.getD_some]
              obtain ⟨f1, f2, f3, -, -⟩ := hF.2.2.2.2.1 (d - 2) (by omega) e0 hu
              rw [hl2] at f2
              have := f3 (n - 1) (by omega) (by omega)
              rw [ins_le hs' (by omega)]; omega
          · rw [Nat.add_sub_cancel, ins_nl hs']; omega
        · left
          have k1 : k < d - 1 := by omega
          have r1 : root (el s) ≠ r := by rw [a3]; exact hnr k k1
          have s1 := a6 (d - 1) k1 (by omega) hf
          refine ⟨k, k1, ?_, ?_, a4, ?_, fun k' q1 q2 => a6 k' q1 (by omega)⟩
          · rw [u1_n cs, hx _ r1, u1_n r1]; exact a2
          · rw [u1_n cs, hx _ r1, hx _ (hnr k k1)]; exact a3
          · rw [Nat.add_sub_cancel, ins_len hs']
            have g1 := c1.2 s s1
            have g2 := hF.2.2.2.1 (d - 1) (by omega) hf s s1
            by_cases c3 : pos s = pos (n - 1)
            · have g3 := c1.1
              by_cases c4 : pos s < pos (st (d - 1))
              · exact g2.mp c4
              · exfalso
                have g4 := hO.inj hs' (by omega) c3
                omega
            · exact g2.mp (g1.mp (by omega))
      · right
        have k1 : k < d - 1 := by
          by_cases c : k = d - 1
          · rw [c, he] at a3; cases a3
          · omega
        have hbb : b ≠ r := fun c => by rw [c, hbr] at a5; cases a5
        have r1 : root (el s) ≠ r := by rw [a4]; exact hbb
        have s1 := a9 (d - 1) k1 (by omega)
        have g1 := c1.2 s s1
        have g2 := hF.2.2.2.1 (d - 1) (by omega) hf s s1
        have g3 : pos (st (d - 1) - 1) < pos s := by omega
        obtain ⟨-, f2, -⟩ := hF.2.2.2.2.1 k a1 e a3
        have f3 := (hF.lim_ge a1).2
        by_cases c : k = d - 2
        · rw [c] at a2 a3 a6
          have e1 : b' = b := by
            rcases hb with q | q
            · rw [q.1] at a2; cases a2
            · rw [q.1] at a2; exact Option.some.inj a2
          refine ⟨d - 2, b', e, by omega, u1_s, by rw [u1_s, a3]; rfl, by rw [u1_n cs, hx _ r1, e1]; exact a4, hb'.2.2, a6, ?_, ?_, fun k' _ _ => by omega⟩
          · rw [ins_le hs' (by omega)]; exact a7
          · rw [Nat.add_sub_cancel, ins_nl hs']; exact g3
        · refine ⟨k, b, e, k1, by rw [u1_n c]; exact a2, by rw [u1_n c]; exact a3, by rw [u1_n cs, hx _ r1]; exact a4, hbt _ a5, a6, ?_, ?_, fun k' q1 q2 => a9 k' q1 (by omega)⟩
          · rw [ins_le hs' (by omega)]; exact a7
          · rw [Nat.add_sub_cancel, ins_nl hs']; exact g3
end BG
/-! READERS AND WRITERS of a cell: the class keeps the one that lies last in the row -/
def RwI (n : Nat) (pos el : Nat → Nat) (S : Nat → Prop) (w : Option Nat) : Prop := (w = none ∧ ∀ s, s < n → ¬ S s) ∨ ∃ r, r < n ∧ w = some (el r) ∧ S r ∧ ∀ s, s < n → S s → pos s ≤ pos r
section RW
variable {n d ne x v : Nat} {pos at_ st : Nat → Nat} {isF : Nat → Bool} {fe : Nat → Option Nat} {el root : Nat → Nat} {bes : Nat → Bool} {fel : Nat → Nat} {fbs : Nat → Option Nat} {S : Nat → Prop} {w : Option Nat}
theorem RwI.found (h : RwI n pos el S w) (hB : BagI n d ne pos st isF fe el root bes fel fbs) : (∃ s, s < n ∧ S s ∧ ¬ pos s ≤ pos (n - 1)) ↔ ∃ y, w = some y ∧ bes (root y) = true := by
  rcases h with ⟨h1, h2⟩ | ⟨r, h1, h2, h3, h4⟩
  · rw [h1]
    exact ⟨fun ⟨s, a, b, _⟩ => absurd b (h2 s a), fun ⟨y, a, _⟩ => by cases a⟩
  · rw [h2]
    constructor
    · rintro ⟨s, a, b, c⟩
      have := h4 s a b
      exact ⟨_, rfl, (hB.lies h1).mpr (by omega)⟩
    · rintro ⟨y, a, b⟩
      cases a
      have := (hB.lies h1).mp b
      exact ⟨r, h1, h3, by omega⟩
theorem RwI.grow (h : RwI n pos el S w) (hS : ∀ s, S s → s < n) : RwI (n + 1) (ins n x pos) (u1 el n v) S w := by
  rcases h with ⟨h1, h2⟩ | ⟨r, h1, h2, h3, h4⟩
  · exact Or.inl ⟨h1, fun s _ q => h2 s (hS s q) q⟩
  · refine Or.inr ⟨r, by omega, by rw [u1_n (by omega)]; exact h2, h3, fun s _ q => ?_⟩
    rw [ins_le (hS s q) h1]
    exact h4 s (hS s q) q
/-- a reader more -/
theorem RwI.read (h : RwI n pos el S w) (hB : BagI n d ne pos st isF fe el root bes fel fbs) (hn : 0 < n) :
    ((∃ y, w = some y ∧ bes (root y) = true) → RwI n pos el (fun s => S s ∨ s = n - 1) w) ∧ ((¬ ∃ y, w = some y ∧ bes (root y) = true) → RwI n pos el (fun s => S s ∨ s = n - 1) (some (el (n - 1)))) := by
  constructor
  · rintro ⟨y, a, b⟩
    rcases h with ⟨h1, h2⟩ | ⟨r, h1, h2, h3, h4⟩
    · rw [h1] at a; cases a
    · rw [h2] at a
      cases a
      have := (hB.lies h1).mp b
      refine Or.inr ⟨r, h1, h2, Or.inl h3, fun s hs q => ?_⟩
      rcases q with q | q
      · exact h4 s hs q
      · rw [q]; omega
  · intro c
    refine Or.inr ⟨n - 1, by omega, rfl, Or.inr rfl, fun s hs q => ?_⟩
    rcases q with q | q
    · have h2 := h.found hB
      by_cases c2 : pos s ≤ pos (n - 1)
      · exact c2
      · exact absurd (h2.mp ⟨s, hs, q, c2⟩) c
    · rw [q]; exact Nat.le_refl _
/-- a writer more, with no race -/
theorem RwI.write (h : RwI n pos el S w) (hB : BagI n d ne pos st isF fe el root bes fel fbs) (hn : 0 < n) (c : ¬ ∃ y, w = some y ∧ bes (root y) = true) : RwI n pos el (fun s => S s ∨ s = n - 1) (some (el (n - 1))) := (h.read hB hn).2 c
end RW
