set_option maxRecDepth 100000
/-! the class's machines: an instruction is fetched and done -/
def kW (K : KS) (mk : Nat) : KS := ksI K 1003 mk 0 0 (kkh K 1003 mk 0 0 + 1)
section ST
variable {B B' : CS} {G G' : GA} {K K' : KS} {P : PD} {pa t d h pc mk op x c s b p : Nat} {al ia : Nat → Nat} {v : Int32}
theorem PrA.ic (hP : PrA G B P pa al ia) (hi : pc < pn P) : IC G B (ia pc) (po P pc) (nI (pv P pc)) := by
  obtain ⟨h1, h2, h3, -, -, -, -, -, f1⟩ := hP
  exact ⟨(h3 pc hi).1, (f1 pc hi).1, (f1 pc hi).2.1, (f1 pc hi).2.2.1⟩
theorem PrA.pl (hP : PrA G B P pa al ia) (hi : pc < pn P) (ho : po P pc = 8 ∨ po P pc = 10) : chi (hp G K B) 302 (ia pc) = nI (ppl P pc) := by
  obtain ⟨h1, h2, h3, -, -, -, -, -, f1⟩ := hP
  rw [hpB_hi (by have := (h3 pc hi).1; omega)]
  exact (f1 pc hi).2.2.2 ho
theorem a164_0 : fX3_step_at164 (gad G mk 0 0) (gad G 4 t 0) x 0 (hp G K B) = some (0, hp G K B, 0, 0) := by
  unfold fX3_step_at164
  rw [if_pos rfl]; rfl
theorem a164_o (hm : mk = 2 ∨ mk = 3) (hS : St G B) (hI : IC G B x op v) (h19 : op < 19) (h12 : op ≠ 12) (h13 : op ≠ 13) : fX3_step_at164 (gad G mk 0 0) (gad G 4 t 0) x 1 (hp G K B) = some (1, hp G (kW K mk) B, 0, 0) := by
  unfold fX3_step_at164
  rw [if_neg (by decide)]
  simp only [tM_ hm hS, chk_t, hi_m hm hS, wI_m hm hS, ic_tg hI, ic_op hI, drf_s, lt_, h19, decide_true, if_neg h13, if_neg h12, cret]
  rfl
theorem a164_p (hm : mk = 2 ∨ mk = 3) (hS : St G B) (ht : t = 100 ∨ t < gnt G) (hI : IC G B x 12 v) (hh : kkh K 503 4 t 0 = nI (h + 1)) : fX3_step_at164 (gad G mk 0 0) (gad G 4 t 0) x 1 (hp G K B) = some (1, hp G (ksI (kW K mk) 503 4 t 0 (nI h)) B, 0, 0) := by
  have e : kkh (ksI K 1003 mk 0 0 (kkh K 1003 mk 0 0 + 1)) 503 4 t 0 = nI (h + 1) := by rw [kh_I, if_neg (by omega)]; exact hh
  unfold fX3_step_at164
  rw [if_neg (by decide)]
  simp only [tM_ hm hS, chk_t, hi_m hm hS, wI_m hm hS, ic_tg hI, ic_op hI, drf_s, lt_, show (12 : Nat) < 19 by decide, decide_true, show ¬ (12 : Nat) = 13 by decide, if_false, if_true, tg_4 hS ht, hi_503 hS ht, e, nI_pred, wI_503 hS ht, cret]
  rfl
theorem a164_c (hm : mk = 2 ∨ mk = 3) (hS : St G B) (hI : IC G B x 13 v) (hc : fX3_call (gad G mk 0 0) (gad G 4 t 0) v (hp G (kW K mk) B) = some (0, hp G' K' B', c, s)) : fX3_step_at164 (gad G mk 0 0) (gad G 4 t 0) x 1 (hp G K B) = some (1, hp G' K' B', c, s) := by
  unfold fX3_step_at164
  rw [if_neg (by decide)]
  simp only [tM_ hm hS, chk_t, hi_m hm hS, wI_m hm hS, ic_tg hI, ic_op hI, drf_s, lt_, show (13 : Nat) < 19 by decide, decide_true, if_true, ic_v hI]
  rw [show ksI K 1003 mk 0 0 (kkh K 1003 mk 0 0 + 1) = kW K mk from rfl, hc, cbn_c]
  simp only [cret, Option.map_some, Nat.add_zero]
/-- fetching -/
theorem f_fetch (hm : mk = 2 ∨ mk = 3) (hS : St G B) (ht : t = 100 ∨ t < gnt G) (hk : d < gnf G t) (hd : kkh K 502 4 t 0 = nI (d + 1)) (hn : kkh K 702 5 t d = nI pc) (hP : PrA G B P pa al ia) (hkp : kkp K (mk + 1) = some pa) (hi : pc < pn P) (h19 : po P pc < 19) {R : CR Int32}
    (h12 : po P pc = 12 → chk (tg (hp G K B) (gad G 40 t 0) 50) (chk (ib (kkh K 503 4 t 0 - 1) 64) (cbn (fM_print (gad G mk 0 0) (gad G 4 t 0) (cai (hp G K B) (gad G 40 t 0) (kkh K 503 4 t 0 - 1).toNatClampNeg) (hp G K B)) (fun r65 s66 => fX3_step_at164 (gad G mk 0 0) (gad G 4 t 0) (ia pc) r65 s66))) = R)
    (h13 : po P pc = 13 → (if nI (d + 1) < (40 : Int32) then fX3_step_at164 (gad G mk 0 0) (gad G 4 t 0) (ia pc) 1 (hp G K B) else some (0, hp G (ksI K 1004 mk 0 0 1) B, 0, 0)) = R)
    (h14 : po P pc = 14 → cbn (fX3_forks (gad G mk 0 0) (gad G 4 t 0) (nI (pv P pc)) (hp G K B)) (fun r84 s85 => fX3_step_at164 (gad G mk 0 0) (gad G 4 t 0) (ia pc) r84 s85) = R)
    (h15 : po P pc = 15 → cbn (fM_join (gad G mk 0 0) (gad G 4 t 0) (hp G K B)) (fun r84 s85 => fX3_step_at164 (gad G mk 0 0) (gad G 4 t 0) (ia pc) r84 s85) = R)
    (h18 : po P pc = 18 → cbn (fM_end (gad G mk 0 0) (gad G 4 t 0) (hp G K B)) (fun r84 s85 => fX3_step_at164 (gad G mk 0 0) (gad G 4 t 0) (ia pc) r84 s85) = R)
    (ho : po P pc ≠ 12 → po P pc ≠ 13 → po P pc ≠ 14 → po P pc ≠ 15 → po P pc ≠ 18 → cbn (fX3_compute (gad G mk 0 0) (gad G 4 t 0) (gad G 5 t d) (ia pc) (hp G K B)) (fun _ s34 => fX3_step_at164 (gad G mk 0 0) (gad G 4 t 0) (ia pc) 1 s34) = R) :
    fX3_step (gad G mk 0 0) (gad G 4 t 0) (hp G K B) = R := by
  have hI := hP.ic hi
  obtain ⟨h1, h2, h3, ⟨a1, a2, a3, a4, a5⟩, ⟨b1, b2, b3, b4, b5, b6, b7⟩, -⟩ := hP
  have p1 : tg (hp G K B) pa 3 = true := decide_eq_true a1
  have p2 : chr (hp G K B) 200 pa = some (al 0) := by rw [hpB_rf h1.1]; exact a2
  have p3 : tg (hp G K B) (al 0) 10 = true := decide_eq_true b1
  have p4 : fJ2_get (al 0) (nI pc) (hp G K B) = some (some (ia pc), hp G K B, 0, 0) := by
    rw [J_get (σ := hp G K B) (e := al 1) (n := pn P) b1 (by rw [hpB_rf (h2 0 (by omega)).1]; exact b2) b3 (by rw [hpB_hi (by have := (h2 0 (by omega)).1; omega)]; exact b4) b5 hi (by show cln B (al 1) < _; omega)]
    show some (car B (al 1) pc, _) = _
    rw [b7 pc hi]
  unfold fX3_step
  simp only [tg_4 hS ht, chk_t, f_top hS ht hd hk, cbn_0, tM_ hm hS, dy_m hm hS, hkp, drf_s, p1, tg_5 hS ht hk, p2, p3, hi_702 hS ht hk, hn, p4, ic_tg hI, ic_op hI, lt_, h19, decide_true, rf_501_4 hS ht, ln_40 hS ht, hi_503 hS ht, ic_v hI, hi_502 hS ht, hd]
  have n_ : ∀ k : Nat, k < 19 → (nI (po P pc) = nI k ↔ po P pc = k) := fun k hk => nI_eq (by omega) (by omega)
  have n12 : nI (po P pc) = (12 : Int32) ↔ po P pc = 12 := n_ 12 (by omega)
  have n13 : nI (po P pc) = (13 : Int32) ↔ po P pc = 13 := n_ 13 (by omega)
  have n14 : nI (po P pc) = (14 : Int32) ↔ po P pc = 14 := n_ 14 (by omega)
  have n15 : nI (po P pc) = (15 : Int32) ↔ po P pc = 15 := n_ 15 (by omega)
  have n18 : nI (po P pc) = (18 : Int32) ↔ po P pc = 18 := n_ 18 (by omega)
  by_cases c12 : po P pc = 12
  · rw [if_pos (n12.mpr c12)]; exact h12 c12
  · rw [if_neg (fun q => c12 (n12.mp q))]
    by_cases c13 : po P pc = 13
    · rw [if_pos (n13.mpr c13), ← h13 c13]
      by_cases c : nI (d + 1) < (40 : Int32)
      · rw [if_pos c, if_pos c]; rfl
      · rw [if_neg c, if_neg c]
        simp only [fX3_limit, tM_ hm hS, chk_t, wI_m hm hS, cret, cbn_0, if_true, fX3_step_at97]
        exact a164_0
    · rw [if_neg (fun q => c13 (n13.mp q))]
      by_cases c14 : po P pc = 14
      · rw [if_pos (n14.mpr c14)]; exact h14 c14
      · rw [if_neg (fun q => c14 (n14.mp q))]
        by_cases c15 : po P pc = 15
        · rw [if_pos (n15.mpr c15)]; exact h15 c15
        · rw [if_neg (fun q => c15 (n15.mp q))]
          by_cases c18 : po P pc = 18
          · rw [if_pos (n18.mpr c18)]; exact h18 c18
          · rw [if_neg (fun q => c18 (n18.mp q))]; exact ho c12 c13 c14 c15 c18
end ST
