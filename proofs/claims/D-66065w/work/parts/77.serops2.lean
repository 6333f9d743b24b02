set_option maxRecDepth 100000
/-! the desk's calls about the serial run -/
section SO
variable {G : GA} {B : CS} {P : PD} {ht : Nat → Nat} {K K' : KS} {f f' : MF} {a : MA} {n ne d wk x y : Nat} {pos at_ : Nat → Nat} {lim : Bool}
/-- the serial run reads no other field of the reference's -/
theorem SerX.fx (h : SerX G B P ht K f a d wk lim) (hf : ∀ g, (1348 ≤ g ∧ g ≤ 1353) ∨ g = 1364 ∨ g = 1366 → f' g = f g) : SerX G B P ht K f' a d wk lim := by
  have n_ : ∀ n ne, SnI K f n ne → SnI K f' n ne := fun n ne h => by
    unfold SnI
    rw [hf _ (by omega), hf _ (by omega)]; exact h
  have p_ : SpI K f a → SpI K f' a := fun h => by
    unfold SpI
    rw [hf 1353 (by omega), hf 1366 (by omega)]; exact h
  have l_ : ∀ d lim, SlI K f d lim → SlI K f' d lim := fun d lim h => by
    unfold SlI
    rw [hf 1349 (by omega), hf 1348 (by omega), hf 1353 (by omega)]; exact h
  have c_ : ∀ td, ScI G K f a td → ScI G K f' a td := fun td h => by
    unfold ScI
    rw [hf 1364 (by omega)]; exact h
  have t_ : StI K f a wk → StI K f' a wk := fun h => by
    unfold StI
    rw [hf 1352 (by omega)]; exact h
  rcases h with ⟨hh, h1, h2, h3, h4, h5, h6, n, ne, pos, at_, st, el, W, root, dp, isF, bes, td, fe, fbs, fel, s1, s2, s3, s4, s5, s6, s7⟩ | ⟨rfl, rfl, h1, h2, h3, h4, h5, h6, n, ne, pos, at_, td, s1, s2, s3, s4, s5, s6, s7⟩
  · exact Or.inl ⟨hh, h1, h2, h3, h4, t_ h5, h6, n, ne, pos, at_, st, el, W, root, dp, isF, bes, td, fe, fbs, fel, n_ _ _ s1, s2, s3, p_ s4, l_ _ _ s5, c_ _ s6, s7⟩
  · exact Or.inr ⟨rfl, rfl, h1, h2, h3, h4, t_ h5, h6, n, ne, pos, at_, td, n_ _ _ s1, s2, s3, p_ s4, l_ _ _ s5, c_ _ s6, s7⟩
/-- the serial run of a desk: not begun, or in some state -/
def SerD (G : GA) (B : CS) (K : KS) (f : MF) (a : MA) (wk : Nat) : Prop := (kkh K 1005 2 0 0 = 0 ∧ f 1347 = 0) ∨ (kkh K 1005 2 0 0 = 1 ∧ f 1347 = 1 ∧ ∃ P ht d lim, SerX G B P ht K f a d wk lim)
theorem SerX.desk (h : SerX G B P ht K f a d wk lim) (hf : f 1347 = 1) : SerD G B K f a wk := by
  obtain ⟨-, -, -, -, -, -, n, ne, pos, at_, td, -, -, -, -, ⟨-, -, -, -, l5⟩, -, -⟩ := h.com
  exact Or.inr ⟨l5, hf, P, ht, d, lim, h⟩
theorem SerD.fx (h : SerD G B K f a wk) (hf : ∀ g, (1347 ≤ g ∧ g ≤ 1353) ∨ g = 1364 ∨ g = 1366 → f' g = f g) : SerD G B K f' a wk := by
  rcases h with ⟨h1, h2⟩ | ⟨h1, h2, P, ht, d, lim, h3⟩
  · exact Or.inl ⟨h1, by rw [hf _ (by omega)]; exact h2⟩
  · exact Or.inr ⟨h1, by rw [hf _ (by omega)]; exact h2, P, ht, d, lim, h3.fx (fun g q => hf g (by omega))⟩
theorem SerD.z (h : SerD G B K f a wk) {v : Int32} : SerD G B K (u1 f 1300 v) a wk := h.fx (fun g q => u1_n (by omega))
theorem hi_52 (hS : St G B) : chi (hp G K B) 902 (gad G 52 0 0) = nI (gnr G) := by
  rw [hpB_hi (by rw [hS.ro (ok_1 (by decide))]; exact (by decide : 50 ≤ 52))]
  exact hS.2.2.2.2.2.2.1
theorem d_races (hS : St G B) (h : SerD G B K f a wk) : ∃ v, fX1_races (gad G 0 0 0) (hp G K B) = some (v, hp G K B, 0, 0) ∧ m_races f a = some (v, u1 f 1300 0, a) := by
  unfold fX1_races m_races
  rw [tg_0 hS, chk_t, rf_5_0 hS, drf_s, tg_2 hS, chk_t, hi_2 hS, u1_n (show (1347 : Nat) ≠ 1300 by decide), u1_n (show (1364 : Nat) ≠ 1300 by decide)]
  rcases h with ⟨h1, h2⟩ | ⟨h1, h2, P, ht, d, lim, h3⟩
  · rw [h1, h2, if_pos rfl, if_pos rfl]
    exact ⟨0, rfl, rfl⟩
  · obtain ⟨-, -, -, -, -, -, n, ne, pos, at_, td, -, -, -, -, -, c1, -⟩ := h3.com
    rw [h1, h2, if_neg (by decide), if_neg (by decide), drf_s, tg_2 hS, chk_t, rf_422_2 hS, drf_s, tg_52 hS, chk_t, J_size (σ := hp G K B) (ty_52 (B := B) hS), hi_52 hS, cbn_0, c1.1]
    exact ⟨nI (gnr G), rfl, rfl⟩
/-- the thrown of a call: what the class throws, what the reference says -/
def OpR (cd : Nat → Int32) (B' : CS) (r : Nat ⊕ Int32) (v : Int32) (f' : MF) : Prop := (r = .inr v ∧ f' 1300 = 0) ∨ ∃ x, r = .inl x ∧ x < csz B' ∧ f' 1300 = cd (cty B' x) ∧ (cty B' x = 11 ∨ cty B' x = 12 ∨ cty B' x = 13)
theorem OpR.exc {cd : Nat → Int32} {m : Nat} (hm : m = 11 ∨ m = 12 ∨ m = 13) {v : Int32} (h : f' 1300 = cd m) : OpR cd (newO B m) (.inl (csz B)) v f' := by
  have e : cty (newO B m) (csz B) = m := if_pos rfl
  exact Or.inr ⟨csz B, rfl, by show csz B < csz B + 1; omega, by rw [e]; exact h, by rw [e]; exact hm⟩
theorem exc_h (hS : St G B) {m : Nat} : (cal 1 6 (cret (.inl (csz (hp G K B))) (newO (hp G K B) m)) : CR (Nat ⊕ Int32)) = some (.inl (csz B), hp G K (newO B m), 1, 6) := by
  rw [hpB_newO hS]; rfl
theorem SerX.out {m : Nat} (h : SerX G B P ht K f a d wk lim) : SerX G (newO B m) P ht K f a d wk lim := by
  have hS := h.com.1
  have hE := Ext.newO hS m
  rcases h with ⟨hh, h1, h2, ⟨pa, al, ia, h3, h3'⟩, q⟩ | ⟨rfl, rfl, h1, h2, ⟨pa, al, ia, h3, h3'⟩, q⟩
  · exact Or.inl ⟨hh, h1.newO m, h2, ⟨pa, al, ia, h3.ext hE, h3'⟩, q⟩
  · exact Or.inr ⟨rfl, rfl, h1.newO m, h2, ⟨pa, al, ia, h3.ext hE, h3'⟩, q⟩
theorem SerD.out {m : Nat} (h : SerD G B K f a wk) : SerD G (newO B m) K f a wk := by
  rcases h with h1 | ⟨h1, h2, P, ht, d, lim, h3⟩
  · exact Or.inl h1
  · exact Or.inr ⟨h1, h2, P, ht, d, lim, h3.out⟩
end SO
