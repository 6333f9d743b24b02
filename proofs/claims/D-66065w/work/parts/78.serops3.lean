set_option maxRecDepth 100000
/-! the desk's calls about the serial run: run, race, beside -/
def cdRun : Nat → Int32 := fun t => if t = 12 then 1 else 2
def cdIx : Nat → Int32 := fun _ => 1
section SP3
variable {G : GA} {B : CS} {P : PD} {ht : Nat → Nat} {K K' : KS} {f f' : MF} {a : MA} {n ne d wk : Nat} {pos at_ : Nat → Nat} {lim : Bool}
theorem gt5000 {x : Int32} (h1 : ¬ x < 1) : ¬ x < 0 := fun h => h1 (Int32.lt_trans h (by decide))
theorem d_run (hS : St G B) (h : SerD G B K f a wk) (hw : wk + 5000 < 2 ^ 30) (x : Int32) :
    ∃ r v G' B' K' f' a' wk' c s, fX1_run (gad G 0 0 0) x (hp G K B) = some (r, hp G' K' B', c, s) ∧ m_run x f a = some (v, f', a') ∧ OpR cdRun B' r v f' ∧ Ext G B G' B' ∧ GrS G G' (c - 1) (s - 6) ∧ wk' ≤ wk + 5000 ∧ SerD G' B' K' f' a' wk' ∧ St G' B' ∧ OutT K K' f f' a a' := by
  have ox : ∀ v : Int32, OutT K K f (u1 f 1300 v) a a := fun v => ⟨fun _ _ _ _ _ => rfl, fun _ _ _ _ _ => rfl, fun _ _ _ => rfl, fun _ _ => rfl, fun g q => u1_n (by omega), fun _ _ _ => rfl⟩
  have bad : ∀ (m : Nat) (cv : Int32), (m = 11 ∨ m = 12 ∨ m = 13) → cdRun m = cv → fX1_run (gad G 0 0 0) x (hp G K B) = some (.inl (csz B), hp G K (newO B m), 1, 6) → m_run x f a = some (0, u1 f 1300 cv, a) →
      ∃ r v G' B' K' f' a' wk' c s, fX1_run (gad G 0 0 0) x (hp G K B) = some (r, hp G' K' B', c, s) ∧ m_run x f a = some (v, f', a') ∧ OpR cdRun B' r v f' ∧ Ext G B G' B' ∧ GrS G G' (c - 1) (s - 6) ∧ wk' ≤ wk + 5000 ∧ SerD G' B' K' f' a' wk' ∧ St G' B' ∧ OutT K K' f f' a a' := by
    intro m cv hm hc e1 e2
    exact ⟨_, _, G, newO B m, K, u1 f 1300 cv, a, wk, 1, 6, e1, e2, OpR.exc hm (by rw [u1_s, hc]), Ext.newO hS m, GrS.refl G, by omega, h.z.out, hS.newO m, ox cv⟩
  have r29 : ∀ y : Int32, ¬ y = 0 → m_run_29 x y f a = some (0, u1 f 1300 y, a) := by
    intro y hy
    unfold m_run_29
    rw [u1_s, if_neg hy]
  have h0 := h
  rcases h with ⟨h1, h2⟩ | ⟨h1, h2, P, ht, d, lim, h3⟩
  · refine bad 12 1 (by omega) rfl ?_ ?_
    · unfold fX1_run
      rw [tg_0 hS, chk_t, rf_5_0 hS, drf_s, tg_2 hS, chk_t, hi_2 hS, h1, if_pos rfl]; exact exc_h hS
    · unfold m_run
      rw [h2, if_pos rfl]; exact r29 1 (by decide)
  · by_cases c1 : x < 1
    · refine bad 11 2 (by omega) rfl ?_ ?_
      · unfold fX1_run
        rw [tg_0 hS, chk_t, rf_5_0 hS, drf_s, tg_2 hS, chk_t, hi_2 hS, h1, if_neg (by decide), if_pos c1]; exact exc_h hS
      · unfold m_run
        rw [h2, if_neg (by decide), if_pos c1]; exact r29 2 (by decide)
    · by_cases c2 : x ≤ 5000
      · obtain ⟨j, hj, rfl⟩ := nI_of2 (M := 5000) (n := 5000) (by decide) (gt5000 c1) c2
        obtain ⟨G', B', K', f', a', d', wk', lim', c, s, e1, e2, e3, e4, e5, e6, e7⟩ := ser_run j 1000000 1000000 0 d wk lim G B K (u1 f 1300 0) a (h3.fx (fun g q => u1_n (by omega))) (by omega) (by omega) (by omega) (by omega)
        have f1347 : f' 1347 = 1 := by rw [e7.2.2.2.2.1 1347 (by omega), u1_n (by decide)]; exact h2
        refine ⟨.inr (rst d' lim'), rst d' lim', G', B', K', f', a', wk', c, s, ?_, ?_, Or.inl ⟨rfl, ?_⟩, e3, ?_, by omega, e6.desk f1347, e6.com.1, (ox 0).trans e7.t⟩
        · unfold fX1_run
          rw [tg_0 hS, chk_t, rf_5_0 hS, drf_s, tg_2 hS, chk_t, hi_2 hS, h1, if_neg (by decide), if_neg c1, if_pos c2]; exact e1
        · unfold m_run m_run_29
          rw [h2, if_neg (by decide), if_neg c1, if_pos c2, u1_s, if_pos rfl]
          rw [Nat.zero_add] at e2; exact e2
        · rw [e7.2.2.2.2.1 1300 (by omega), u1_s]
        · obtain ⟨x1, x2, x3, x4, x5, x6⟩ := e4
          exact ⟨x1, x2, x3, x4, by omega, by omega⟩
      · refine bad 11 2 (by omega) rfl ?_ ?_
        · unfold fX1_run
          rw [tg_0 hS, chk_t, rf_5_0 hS, drf_s, tg_2 hS, chk_t, hi_2 hS, h1, if_neg (by decide), if_neg c1, if_neg c2]; exact exc_h hS
        · unfold m_run
          rw [h2, if_neg (by decide), if_neg c1, if_neg c2]; exact r29 2 (by decide)
end SP3
