set_option maxRecDepth 100000
/-! the desk's calls about the serial run: its numbers -/
section SP5
variable {G : GA} {B : CS} {K : KS} {f : MF} {a : MA} {wk : Nat}
theorem d_serial (hS : St G B) (h : SerD G B K f a wk) (x : Int32) : ∃ v, fX1_serial (gad G 0 0 0) x (hp G K B) = some (v, hp G K B, 0, 0) ∧ m_serial x f a = some (v, u1 f 1300 0, a) := by
  have t100 : (100 : Nat) = 100 ∨ 100 < gnt G := Or.inl rfl
  unfold fX1_serial m_serial
  by_cases c1 : x < 0
  · rw [if_pos c1, if_pos c1]; exact ⟨_, rfl, rfl⟩
  · rw [if_neg c1, if_neg c1]
    by_cases c2 : x ≤ 5
    · rw [if_pos c2, if_pos c2, tg_0 hS, chk_t, rf_5_0 hS, drf_s, tg_2 hS, chk_t, hi_2 hS, u1_n (show (1347 : Nat) ≠ 1300 by decide), u1_n (show (1350 : Nat) ≠ 1300 by decide), u1_n (show (1353 : Nat) ≠ 1300 by decide), u1_n (show (1366 : Nat) ≠ 1300 by decide)]
      rcases h with ⟨h1, h2⟩ | ⟨h1, h2, P, ht, d, lim, h3⟩
      · rw [h1, h2, if_pos rfl, if_pos rfl]; exact ⟨_, rfl, rfl⟩
      · obtain ⟨-, -, -, -, ⟨-, t4, t5, t6, t7⟩, ⟨b1, b2, -, -⟩, n, ne, pos, at_, td, s1, -, -, ⟨p0, pr, p1, p2, -, -⟩, -, -, -⟩ := h3.com
        have i0 : ib (0 : Int32) 2 = true := by decide
        have i100 : ib (100 : Int32) 101 = true := by decide
        rw [h1, h2, if_neg (show ¬ (1 : Int32) = 0 by decide), if_neg (show ¬ (1 : Int32) = 0 by decide)]
        simp only [drf_s, tg_2 hS, chk_t, hi_2 hS, hp_406 hS, tg_4 hS t100, hi_502 hS t100, s1.1, s1.2.1, t4, t5, p0, t6, p1, p2, b1, b2, ml28, ml27, ml19, i0, i100, show (0 : Int32).toNatClampNeg = 0 from rfl, show (100 : Int32).toNatClampNeg = 100 from rfl]
        by_cases d0 : x = 0
        · rw [if_pos d0, if_pos d0]; exact ⟨_, rfl, rfl⟩
        · rw [if_neg d0, if_neg d0]
          by_cases d1 : x = 1
          · rw [if_pos d1, if_pos d1]; exact ⟨_, rfl, rfl⟩
          · rw [if_neg d1, if_neg d1]
            by_cases d2 : x = 2
            · rw [if_pos d2, if_pos d2]; exact ⟨_, rfl, rfl⟩
            · rw [if_neg d2, if_neg d2]
              by_cases d3 : x = 3
              · rw [if_pos d3, if_pos d3]; exact ⟨_, rfl, rfl⟩
              · rw [if_neg d3, if_neg d3]
                by_cases d4 : x = 4
                · rw [if_pos d4, if_pos d4]; exact ⟨_, rfl, rfl⟩
                · rw [if_neg d4, if_neg d4]; exact ⟨_, rfl, rfl⟩
    · rw [if_neg c2, if_neg c2]; exact ⟨_, rfl, rfl⟩
end SP5
