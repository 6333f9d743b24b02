set_option maxRecDepth 100000
/-! the desk's calls about the serial run: a race -/
section SP6
variable {G : GA} {B : CS} {K : KS} {f : MF} {a : MA} {wk : Nat}
theorem f_raceAt {i : Nat} (hS : St G B) (hi : i < gnr G) : fJ2_get (gad G 52 0 0) (nI i) (hp G K B) = some (some (gad G 6 0 i), hp G K B, 0, 0) := by
  have n32 := hS.2.2.2.2.2.1
  obtain ⟨L1, L2, L3, L4, L5⟩ := hS.2.2.2.2.2.2
  rw [J_get (σ := hp G K B) (e := gad G 62 0 0) (n := gnr G) (ty_52 (B := B) hS) (hp_rf hS (by decide) (ok_1 (by decide))) ((hS.1.1 62 0 0 (ok_1 (by decide))).2.2.1) (hi_52 hS) L2 hi (by show cln B (gad G 62 0 0) < _; omega)]
  show some (car B (gad G 62 0 0) i, _) = _
  rw [L5 i hi]
theorem d_race (hS : St G B) (h : SerD G B K f a wk) (x y : Int32) :
    ∃ r v B' f' c s, fX1_race (gad G 0 0 0) x y (hp G K B) = some (r, hp G K B', c, s) ∧ m_race x y f a = some (v, f', a) ∧ OpR cdIx B' r v f' ∧ Ext G B G B' ∧ c ≤ 1 ∧ s ≤ 6 ∧ SerD G B' K f' a wk ∧ St G B' ∧ OutT K K f f' a a := by
  have ox : ∀ v : Int32, OutT K K f (u1 f 1300 v) a a := fun v => ⟨fun _ _ _ _ _ => rfl, fun _ _ _ _ _ => rfl, fun _ _ _ => rfl, fun _ _ => rfl, fun g q => u1_n (by omega), fun _ _ _ => rfl⟩
  have bad : fX1_race (gad G 0 0 0) x y (hp G K B) = some (.inl (csz B), hp G K (newO B 13), 1, 6) → m_race x y f a = some (0, u1 f 1300 1, a) →
      ∃ r v B' f' c s, fX1_race (gad G 0 0 0) x y (hp G K B) = some (r, hp G K B', c, s) ∧ m_race x y f a = some (v, f', a) ∧ OpR cdIx B' r v f' ∧ Ext G B G B' ∧ c ≤ 1 ∧ s ≤ 6 ∧ SerD G B' K f' a wk ∧ St G B' ∧ OutT K K f f' a a := by
    intro e1 e2
    exact ⟨_, _, newO B 13, u1 f 1300 1, 1, 6, e1, e2, OpR.exc (by omega) (by rw [u1_s]; rfl), Ext.newO hS 13, by omega, by omega, h.z.out, hS.newO 13, ox 1⟩
  have b32 : m_race_32 x y f a = some (0, u1 f 1300 1, a) := by
    unfold m_race_32 m_race_33
    rw [if_pos rfl, if_pos rfl]
  have h0 := h
  rcases h with ⟨h1, h2⟩ | ⟨h1, h2, P, ht, d, lim, h3⟩
  · refine bad ?_ ?_
    · unfold fX1_race
      rw [tg_0 hS, chk_t, rf_5_0 hS, drf_s, tg_2 hS, chk_t, hi_2 hS, h1, if_pos rfl]; exact exc_h hS
    · unfold m_race
      rw [h2, if_pos rfl]; exact b32
  · obtain ⟨-, -, -, -, -, -, n, ne, pos, at_, td, -, -, -, -, -, ⟨c1, c2, c3, c4⟩, -⟩ := h3.com
    have n32 := hS.2.2.2.2.2.1
    have hm : m_race x y f a = (if x < 0 then some (0, u1 f 1300 1, a) else if nI (gnr G) ≤ x then some (0, u1 f 1300 1, a) else if y < 0 then some (0, u1 f 1300 1, a) else if 3 < y then some (0, u1 f 1300 1, a) else m_race_33 x y 1 f a) := by
      unfold m_race
      rw [h2, if_neg (show ¬ (1 : Int32) = 0 by decide), b32, c1]
    have hc : fX1_race (gad G 0 0 0) x y (hp G K B) = (if x < 0 then some (.inl (csz B), hp G K (newO B 13), 1, 6) else if nI (gnr G) ≤ x then some (.inl (csz B), hp G K (newO B 13), 1, 6) else if y < 0 then some (.inl (csz B), hp G K (newO B 13), 1, 6) else if y ≤ 3 then (cbn (fJ2_get (gad G 52 0 0) x (hp G K B)) (fun r33 s34 => drf r33 (fun a40 => chk (tg s34 a40 9) (if y = 0 then (cret (.inr (chi s34 800 a40)) s34) else (if y = (1 : Int32) then (cret (.inr (chi s34 801 a40)) s34) else (if y = (2 : Int32) then (if (chi s34 802 a40) = 0 then (cret (.inr (0 : Int32)) s34) else (cret (.inr (1 : Int32)) s34)) else (cret (.inr (chi s34 803 a40)) s34))))))) else some (.inl (csz B), hp G K (newO B 13), 1, 6)) := by
      unfold fX1_race
      rw [tg_0 hS, chk_t, rf_5_0 hS, drf_s, tg_2 hS, chk_t, hi_2 hS, h1, if_neg (show ¬ (1 : Int32) = 0 by decide), exc_h hS]
      simp only [drf_s, tg_2 hS, tg_0 hS, rf_5_0 hS, chk_t, rf_422_2 hS, tg_52 hS, J_size (σ := hp G K B) (ty_52 (B := B) hS), hi_52 hS, cbn_0, exc_h hS]
    rcases pk_ix x (n := gnr G) (by omega) with c | c | ⟨i, hi, rfl⟩
    · refine bad ?_ ?_
      · rw [hc, if_pos c]
      · rw [hm, if_pos c]
    · refine bad ?_ ?_
      · rw [hc]
        by_cases z : x < 0
        · rw [if_pos z]
        · rw [if_neg z, if_pos c]
      · rw [hm]
        by_cases z : x < 0
        · rw [if_pos z]
        · rw [if_neg z, if_pos c]
    · have xi : ¬ nI i < 0 := nI_pos (by omega)
      have xn : ¬ nI (gnr G) ≤ nI i := nI_ge hi (by omega)
      rcases pk_ix y (n := 4) (by decide) with c | c | ⟨j, hj, rfl⟩
      · refine bad ?_ ?_
        · rw [hc, if_neg xi, if_neg xn, if_pos c]
        · rw [hm, if_neg xi, if_neg xn, if_pos c]
      · have y3 : (3 : Int32) < y := Int32.lt_of_lt_of_le (show (3 : Int32) < nI 4 by decide) c
        have y3' : ¬ y ≤ 3 := fun z => absurd (Int32.lt_of_lt_of_le y3 z) Int32.lt_irrefl
        refine bad ?_ ?_
        · rw [hc, if_neg xi, if_neg xn]
          by_cases z2 : y < 0
          · rw [if_pos z2]
          · rw [if_neg z2, if_neg y3']
        · rw [hm, if_neg xi, if_neg xn]
          by_cases z2 : y < 0
          · rw [if_pos z2]
          · rw [if_neg z2, if_pos y3]
      · have yj : ¬ nI j < 0 := nI_pos (by omega)
        have y3 : nI j ≤ 3 := nI_le (b := 3) (by omega) (by decide)
        have y3' : ¬ (3 : Int32) < nI j := nI_nlt (a := 3) (b := j) (by omega) (by decide)
        obtain ⟨q0, q1, q2, q3, q4⟩ := c4 i hi
        have eix : (4 : Int32) * nI i + nI j = nI (4 * i + j) := by
          show nI 4 * nI i + nI j = _
          rw [pk_mul, nI_add]
        have hv : m_race (nI i) (nI j) f a = some (a 39 (4 * i + j), u1 f 1300 0, a) := by
          rw [hm, if_neg xi, if_neg xn, if_neg yj, if_neg y3']
          unfold m_race_33
          rw [if_neg (show ¬ (1 : Int32) = 0 by decide), if_neg (show ¬ (1 : Int32) = 0 by decide), eix, ml39, ibn (show 4 * i + j < 128 by omega) (by decide), chk_t, cln_ (show 4 * i + j < 2 ^ 31 by omega)]
        have hr : fX1_race (gad G 0 0 0) (nI i) (nI j) (hp G K B) = some (.inr (a 39 (4 * i + j)), hp G K B, 0, 0) := by
          rw [hc, if_neg xi, if_neg xn, if_neg yj, if_pos y3, f_raceAt hS hi, cbn_0, drf_s, tg_6 hS hi, chk_t]
          have hj4 : j = 0 ∨ j = 1 ∨ j = 2 ∨ j = 3 := by omega
          rcases hj4 with rfl | rfl | rfl | rfl
          · rw [if_pos (show nI 0 = 0 from rfl), hi_800 hS hi, q0]; rfl
          · rw [if_neg (by decide), if_pos (show nI 1 = 1 from rfl), hi_801 hS hi, q1]; rfl
          · rw [if_neg (by decide), if_neg (by decide), if_pos (show nI 2 = 2 from rfl), hi_802 hS hi, ← q2]
            rcases q4 with z | z
            · rw [z, if_pos rfl]; rfl
            · rw [z, if_neg (by decide)]; rfl
          · rw [if_neg (by decide), if_neg (by decide), if_neg (by decide), hi_803 hS hi, q3]; rfl
        exact ⟨_, _, B, _, 0, 0, hr, hv, Or.inl ⟨rfl, u1_s⟩, Ext.refl G B, by omega, by omega, h0.z, hS, ox 0⟩
end SP6
