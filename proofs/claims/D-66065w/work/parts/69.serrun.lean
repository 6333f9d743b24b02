set_option maxRecDepth 100000
/-! the serial run: steps, and a run of them -/
section SN
variable {G G1 G2 : GA} {B : CS} {P : PD} {ht : Nat → Nat} {K : KS} {f : MF} {a : MA} {d h wk c1 c2 s1 s2 : Nat} {lim : Bool}
theorem GrS.trans (h1 : GrS G G1 c1 s1) (h2 : GrS G1 G2 c2 s2) : GrS G G2 (c1 + c2) (s1 + s2) := by
  obtain ⟨a1, a2, a3, a4, a5, a6⟩ := h1
  obtain ⟨b1, b2, b3, b4, b5, b6⟩ := h2
  exact ⟨b1.trans a1, fun t q => (b2 t q).trans (a2 t q), by omega, by omega, by omega, by omega⟩
theorem ser_step (hI : SerI G B P ht K f a (d + 1) h wk false) (hw : wk < 2 ^ 30) : SerStepX G B P ht K f a wk := by
  obtain ⟨pc, q1, q2, q3, q4, q5, -⟩ := hI.fact
  have hc : (po P pc ≤ 7 ∨ po P pc = 9 ∨ po P pc = 11 ∨ po P pc = 16 ∨ po P pc = 17) ∨ po P pc = 8 ∨ po P pc = 10 ∨ po P pc = 12 ∨ po P pc = 13 ∨ po P pc = 14 ∨ po P pc = 15 ∨ po P pc = 18 := by omega
  rcases hc with c | c | c | c | c | c | c | c
  · obtain ⟨K', f', a', h', e1, e2, e3, e4⟩ := ser_ops hI hw q2 q4 c
    exact ⟨G, B, K', f', a', d + 1, wk + 1, false, 0, 0, e1, e2, Ext.refl G B, GrS.refl G, Nat.le_refl _, Or.inl ⟨h', e3⟩, e4⟩
  · exact (ser_read hI hw q2 q4 c).x
  · exact (ser_write hI hw q2 q4 c).x
  · exact (ser_print hI hw q2 q4 c).x
  · exact (ser_call hI hw q2 q4 c).x
  · exact (ser_fork hI hw q2 q4 c).x
  · exact (ser_join hI hw q2 q4 c).x
  · exact ser_end hI hw q2 q4 c
theorem SerX.com (h : SerX G B P ht K f a d wk lim) : SerC G B P ht K f a d wk lim := by
  rcases h with ⟨h', q⟩ | ⟨rfl, rfl, q⟩
  · exact q.com
  · exact q
/-- what a run answers -/
def rst (d : Nat) (lim : Bool) : Int32 := if lim then 2 else if d = 0 then 1 else 0
theorem SerX.nz (h : SerX G B P ht K f a d wk lim) : lim = true → 0 < d := by
  rcases h with ⟨h', q⟩ | ⟨rfl, rfl, q⟩
  · exact fun _ => q.pos
  · exact fun z => by cases z
theorem SerX.stM (h : SerX G B P ht K f a d wk lim) : (if f 1348 = 0 then (if f 1349 = 0 then (some ((0 : Int32), f, a)) else (some ((2 : Int32), f, a))) else (some ((1 : Int32), f, a))) = some (rst d lim, f, a) := by
  have hz := h.nz
  obtain ⟨hS, -, -, -, -, -, n, ne, pos, at_, td, -, -, -, -, ⟨l1, l2, l3, l4⟩, -, -⟩ := h.com
  rw [l3, l2]
  unfold rst
  cases lim with
  | true =>
    have := hz rfl
    rw [decide_eq_false (by omega), if_pos (show zI false = 0 from rfl), if_neg (show ¬ zI true = 0 by decide), if_pos rfl]
  | false =>
    rw [if_neg (show ¬ false = true by decide)]
    by_cases c : d = 0
    · rw [decide_eq_true c, if_neg (show ¬ zI true = 0 by decide), if_pos c]
    · rw [decide_eq_false c, if_pos (show zI false = 0 from rfl), if_pos (show zI false = 0 from rfl), if_neg c]
theorem SerX.stC (h : SerX G B P ht K f a d wk lim) : (if kkh K 1004 2 0 0 = 0 then (cbn (fX5_isOver (gad G 4 100 0) (hp G K B)) (fun r17 s18 => if r17 = 0 then (cret (.inr (0 : Int32)) s18) else (cret (.inr (1 : Int32)) s18))) else (cret (.inr (2 : Int32)) (hp G K B)) : CR (Nat ⊕ Int32)) = some (.inr (rst d lim), hp G K B, 0, 0) := by
  obtain ⟨hS, -, -, -, -, ⟨b1, b2, b3, b4⟩, n, ne, pos, at_, td, -, -, -, -, ⟨l1, l2, l3, l4⟩, -, -⟩ := h.com
  have t100 : (100 : Nat) = 100 ∨ 100 < gnt G := Or.inl rfl
  rw [l1]
  unfold rst
  cases lim with
  | true => rfl
  | false =>
    rw [if_pos (show zI false = 0 from rfl), if_neg (show ¬ false = true by decide)]
    unfold fX5_isOver
    rw [tg_4 hS t100, chk_t, hi_502 hS t100, b1]
    by_cases c : d = 0
    · rw [if_pos (by rw [c]; rfl), if_pos c]; rfl
    · rw [if_neg (nI_ne0 (by omega) (by omega)), if_neg c]; rfl
theorem f_isOverS (hS : St G B) (h0 : kkh K 502 4 100 0 = nI d) (h40 : d ≤ 40) : fX5_isOver (gad G 4 100 0) (hp G K B) = some (zI (decide (d = 0)), hp G K B, 0, 0) := by
  have t100 : (100 : Nat) = 100 ∨ 100 < gnt G := Or.inl rfl
  unfold fX5_isOver
  rw [tg_4 hS t100, chk_t, hi_502 hS t100, h0]
  by_cases c : d = 0
  · rw [if_pos (by rw [c]; rfl), decide_eq_true c]; rfl
  · rw [if_neg (nI_ne0 (by omega) (by omega)), decide_eq_false c]; rfl
theorem ser_run : ∀ (r N N' i d wk : Nat) (lim : Bool) (G : GA) (B : CS) (K : KS) (f : MF) (a : MA), SerX G B P ht K f a d wk lim → wk + r < 2 ^ 30 → i + r < 2 ^ 30 → r < N → r < N' →
    ∃ G' B' K' f' a' d' wk' lim' c s, fX1_run_at40 N (gad G 0 0 0) (nI r) (hp G K B) = some (.inr (rst d' lim'), hp G' K' B', c, s) ∧ m_run_43 N' (nI (i + r)) (nI i) f a = some (rst d' lim', f', a') ∧ Ext G B G' B' ∧ GrS G G' c s ∧ wk' ≤ wk + r ∧ SerX G' B' P ht K' f' a' d' wk' lim' ∧ OutS K K' f f' a a' := by
  intro r
  induction r with
  | zero =>
    intro N N' i d wk lim G B K f a hX hw hi hN hN'
    obtain ⟨M, rfl⟩ : ∃ M, N = M + 1 := ⟨N - 1, by omega⟩
    obtain ⟨M', rfl⟩ : ∃ M', N' = M' + 1 := ⟨N' - 1, by omega⟩
    have hS := hX.com.1
    have t100 : (100 : Nat) = 100 ∨ 100 < gnt G := Or.inl rfl
    refine ⟨G, B, K, f, a, d, wk, lim, 0, 0, ?_, ?_, Ext.refl G B, GrS.refl G, by omega, hX, OutS.refl⟩
    · rw [fX1_run_at40, if_pos (show nI 0 ≤ 0 by decide)]
      simp only [tg_0 hS, chk_t, rf_5_0 hS, drf_s, tg_2 hS, hi_2 hS, hp_406 hS, tg_4 hS t100]
      exact hX.stC
    · rw [m_run_43, if_pos (show nI (i + 0) ≤ nI i by rw [nI_leI (by omega) (by omega)]; omega)]
      exact hX.stM
  | succ r ih =>
    intro N N' i d wk lim G B K f a hX hw hi hN hN'
    obtain ⟨M, rfl⟩ : ∃ M, N = M + 1 := ⟨N - 1, by omega⟩
    obtain ⟨M', rfl⟩ : ∃ M', N' = M' + 1 := ⟨N' - 1, by omega⟩
    have hC := hX.com
    obtain ⟨hS, -, -, -, -, ⟨b1, b2, b3, b4⟩, n, ne, pos, at_, td, -, -, -, -, ⟨l1, l2, l3, l4⟩, -, -⟩ := hC
    have t100 : (100 : Nat) = 100 ∨ 100 < gnt G := Or.inl rfl
    have hn0 : ¬ nI (r + 1) ≤ 0 := by
      show ¬ nI (r + 1) ≤ nI 0
      rw [nI_leI (by omega) (by omega)]; omega
    have hn1 : ¬ nI (i + (r + 1)) ≤ nI i := by rw [nI_leI (by omega) (by omega)]; omega
    by_cases hgo : lim = false ∧ 0 < d
    · obtain ⟨rfl, hd⟩ := hgo
      obtain ⟨d0, rfl⟩ : ∃ d0, d = d0 + 1 := ⟨d - 1, by omega⟩
      obtain ⟨h', hI⟩ : ∃ h, SerI G B P ht K f a (d0 + 1) h wk false := by
        rcases hX with q | ⟨q, -⟩
        · exact q
        · omega
      obtain ⟨G', B', K', f', a', d', wk', lim', c1, s1, e1, e2, e3, e4, e5, e6, e7⟩ := ser_step hI (by omega)
      have hS' := e6.com.1
      have t100' : (100 : Nat) = 100 ∨ 100 < gnt G' := Or.inl rfl
      have z0 : gad G' 0 0 0 = gad G 0 0 0 := (e3.1 _ 0 0 (ok_1 (by decide)) (by omega)).2
      cases hlim : lim' with
      | true =>
        -- a limit is reached
        rw [hlim] at e1 e6
        refine ⟨G', B', K', f', a', d', wk', true, c1, s1, ?_, ?_, e3, e4, by omega, e6, e7⟩
        · rw [fX1_run_at40, if_neg hn0]
          simp only [tg_0 hS, chk_t, rf_5_0 hS, drf_s, tg_2 hS, hi_2 hS, l1, if_true, show zI false = (0 : Int32) from rfl, hp_406 hS, tg_4 hS t100, f_isOverS hS b1 b3, decide_eq_false (show ¬ d0 + 1 = 0 by omega), cbn_0, e1]
          rw [cbn_c, if_pos (show zI (!true) = 0 from rfl), ← z0]
          simp only [tg_0 hS', chk_t, rf_5_0 hS', drf_s, tg_2 hS', hi_2 hS', hp_406 hS', tg_4 hS' t100']
          rw [e6.stC]
          simp only [Option.map_some, Nat.add_zero]
        · have hw2 : m_run_43 M' (nI (i + (r + 1))) (nI i + 1) f' a' = some (rst d' true, f', a') := by
            obtain ⟨M2, rfl⟩ : ∃ M2, M' = M2 + 1 := ⟨M' - 1, by omega⟩
            obtain ⟨-, -, -, -, -, -, n2, ne2, pos2, at2, td2, -, -, -, -, ⟨l1', l2', l3', l4'⟩, -, -⟩ := e6.com
            have hz := e6.nz rfl
            rw [m_run_43]
            by_cases cc : nI (i + (r + 1)) ≤ nI i + 1
            · rw [if_pos cc]; exact e6.stM
            · rw [if_neg cc, l3', l2', decide_eq_false (by omega), if_pos (show zI false = 0 from rfl), if_neg (show ¬ zI true = 0 by decide)]
              rw [if_pos (show zI false = 0 from rfl), if_neg (show ¬ zI true = 0 by decide)]
              rfl
          rw [m_run_43, if_neg hn1, l3, l2, decide_eq_false (by omega), if_pos (show zI false = 0 from rfl), if_pos (show zI false = 0 from rfl), e2, bnd_s]
          exact hw2
      | false =>
        rw [hlim] at e1 e6
        obtain ⟨G2, B2, K2, f2, a2, d2, wk2, lim2, c2, s2, x1, x2, x3, x4, x5, x6, x7⟩ := ih M M' (i + 1) d' wk' false G' B' K' f' a' e6 (by omega) (by omega) (by omega) (by omega)
        refine ⟨G2, B2, K2, f2, a2, d2, wk2, lim2, c1 + c2, s1 + s2, ?_, ?_, e3.trans x3, ?_, by omega, x6, e7.trans x7⟩
        · rw [fX1_run_at40, if_neg hn0]
          simp only [tg_0 hS, chk_t, rf_5_0 hS, drf_s, tg_2 hS, hi_2 hS, l1, if_true, show zI false = (0 : Int32) from rfl, hp_406 hS, tg_4 hS t100, f_isOverS hS b1 b3, decide_eq_false (show ¬ d0 + 1 = 0 by omega), cbn_0, e1]
          rw [cbn_c, if_neg (show ¬ zI (!false) = 0 by decide), nI_dec, nI_pred, ← z0, x1]
          simp only [Option.map_some]
        · rw [m_run_43, if_neg hn1, l3, l2, decide_eq_false (by omega), if_pos (show zI false = 0 from rfl), if_pos (show zI false = 0 from rfl), e2, bnd_s, nI_1]
          rw [show i + (r + 1) = i + 1 + r by omega]; exact x2
        · exact e4.trans x4
    · refine ⟨G, B, K, f, a, d, wk, lim, 0, 0, ?_, ?_, Ext.refl G B, GrS.refl G, by omega, hX, OutS.refl⟩
      · rw [fX1_run_at40, if_neg hn0]
        simp only [tg_0 hS, chk_t, rf_5_0 hS, drf_s, tg_2 hS, hi_2 hS, hp_406 hS, tg_4 hS t100]
        cases hlim : lim with
        | true =>
          rw [hlim] at l1 hX
          rw [if_neg (by rw [l1]; decide)]
          exact hX.stC
        | false =>
          rw [hlim] at l1 hX hgo
          have hd0 : d = 0 := by
            by_cases c : d = 0
            · exact c
            · exact absurd ⟨rfl, by omega⟩ hgo
          rw [if_pos (by rw [l1]; rfl), f_isOverS hS b1 b3, cbn_0, decide_eq_true hd0, if_neg (show ¬ zI true = 0 by decide)]
          simp only [tg_0 hS, chk_t, rf_5_0 hS, drf_s, tg_2 hS, hi_2 hS, hp_406 hS, tg_4 hS t100]
          exact hX.stC
      · rw [m_run_43, if_neg hn1, l3, l2]
        have hz := hX.nz
        have hM := hX.stM
        rw [l3, l2] at hM
        cases hlim : lim with
        | true =>
          rw [hlim] at hM hz
          have := hz rfl
          rw [decide_eq_false (by omega)] at hM ⊢
          rw [if_pos (show zI false = 0 from rfl), if_neg (show ¬ zI true = 0 by decide)]
          exact hM
        | false =>
          rw [hlim] at hM hgo
          have hd0 : d = 0 := by
            by_cases c : d = 0
            · exact c
            · exact absurd ⟨rfl, by omega⟩ hgo
          rw [decide_eq_true hd0] at hM ⊢
          rw [if_neg (show ¬ zI true = 0 by decide)]
          exact hM
end SN
