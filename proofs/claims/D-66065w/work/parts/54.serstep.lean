set_option maxRecDepth 100000
/-! THE SERIAL RUN: plain instructions on both sides -/
/-- a state of both sides in the midst of a serial run -/
def SerI (G : GA) (B : CS) (P : PD) (ht : Nat → Nat) (K : KS) (f : MF) (a : MA) (d h wk : Nat) (lim : Bool) : Prop :=
  St G B ∧ FkOk G K ∧ (∃ pa al ia, PrA G B P pa al ia ∧ kkp K 3 = some pa) ∧ WfP P ht ∧ StI K f a wk ∧ FbI G P ht K a 100 d h ∧
  ∃ n ne pos at_ st el W root dp isF bes td fe fbs fel, SerQ G P K f a n d ne wk pos at_ st el W root dp isF bes td fe fbs fel lim
section SS
variable {G : GA} {B : CS} {P : PD} {ht : Nat → Nat} {K K1 K' : KS} {f f' : MF} {a a' : MA} {d h h' wk pc pc' : Nat} {lim : Bool}
theorem SameS.refl : SameS K K f f a a := ⟨fun _ _ _ _ _ => rfl, fun _ _ _ _ _ => rfl, rfl, rfl, fun _ _ => rfl, fun _ _ => rfl, OutS.refl⟩
/-- a plain instruction: what is left to be shown -/
theorem ser_plain (hI : SerI G B P ht K f a (d + 1) h wk lim) (hw : wk < 2 ^ 30) (hpc : pc < pn P) (hn : kkh K 702 5 100 d = nI pc) (ho : po P pc ≠ 12 ∧ po P pc ≠ 13 ∧ po P pc ≠ 14 ∧ po P pc ≠ 15 ∧ po P pc ≠ 18)
    (hc : ∀ x, IC G B x (po P pc) (nI (pv P pc)) → fX3_compute (gad G 2 0 0) (gad G 4 100 0) (gad G 5 100 d) x (hp G K B) = some (0, hp G K1 B, 0, 0))
    (hm : m_plain (nI 100) (nI (4000 + d)) (nI pc) (u1 f 1352 (f 1352 + 1)) (nxA a d pc) = some (1, f', a'))
    (hs : SameS K K1 f f' a a') (h409 : kkh K1 409 2 0 0 = kkh K 409 2 0 0 + 1) (h1003 : kkh K1 1003 2 0 0 = kkh K 1003 2 0 0) (h1352 : f' 1352 = f 1352 + 1) (h28 : a' 28 0 = a 28 0 + 1) (h1002 : kkh K1 1002 2 0 0 = a' 27 0) (hcl : ∀ c, c < 32 → kka K1 20 0 0 c = a' 26 c)
    (hv : FbV G K1 a' 100 (d + 1) h') (hk7 : ∀ k, k < d → kkh K1 702 5 100 k = kkh K 702 5 100 k) (hpc' : pc' < pn P) (hn' : kkh K1 702 5 100 d = nI pc') (hh' : ht pc' = h') :
    fX3_step (gad G 2 0 0) (gad G 4 100 0) (hp G K B) = some (1, hp G (kW K1 2) B, 0, 0) ∧ m_stepSerial f a = some (0, f', a') ∧ SerI G B P ht (kW K1 2) f' a' (d + 1) h' (wk + 1) lim ∧ OutS K (kW K1 2) f f' a a' := by
  obtain ⟨hS, hF, ⟨pa, al, ia, hP, hkp⟩, hW, hT, hB, n, ne, pos, at_, st, el, W, root, dp, isF, bes, td, fe, fbs, fel, hQ⟩ := hI
  obtain ⟨⟨tm, t1, t2, t3⟩, t4, t5, t6, t7⟩ := hT
  have hBv := hB.val
  have hBt := hB.typ
  obtain ⟨⟨b1, b2, b3, b4⟩, -, -, -, -⟩ := hB
  have t100 : (100 : Nat) = 100 ∨ 100 < gnt G := Or.inl rfl
  obtain ⟨w1, w2, w3, w4, w5⟩ := hW.2.2.2.2 pc hpc
  have pn5 := hW.1
  have hIC := hP.ic hpc
  have kW_h : ∀ g kd t k, ¬ (g = 1003 ∧ kd = 2) → kkh (kW K1 2) g kd t k = kkh K1 g kd t k := by
    intro g kd t k q
    unfold kW
    rw [kh_I, if_neg (fun z => q ⟨z.1, z.2.1⟩)]
  refine ⟨?_, ?_, ⟨hS, ?_, ⟨pa, al, ia, hP, ?_⟩, hW, ?_, ?_, n, ne, pos, at_, st, el, W, root, dp, isF, bes, td, fe, fbs, fel, ?_⟩, hs.2.2.2.2.2.2.trans (oS_I (by omega))⟩
  · refine f_fetch (Or.inl rfl) hS t100 (by omega) b1 hn hP hkp hpc w1 (fun q => absurd q ho.1) (fun q => absurd q ho.2.1) (fun q => absurd q ho.2.2.1) (fun q => absurd q ho.2.2.2.1) (fun q => absurd q ho.2.2.2.2) ?_
    intro _ _ _ _ _
    rw [hc _ hIC, cbn_0]
    exact a164_o (Or.inl rfl) hS hIC w1 ho.1 ho.2.1
  · obtain ⟨n1, n2, n3, n4, -⟩ := hQ.1
    obtain ⟨-, pr, p1, p2, p3, -⟩ := hQ.2.2.2.1
    obtain ⟨-, q2⟩ := hQ.2.2.2.2.2.2.2.1
    obtain ⟨f1, f2, f3, -⟩ := q2 d (by omega)
    obtain ⟨m1, m2, -⟩ := hQ.2.2.2.2.2.2.2.2.2.1 pc hpc
    have oo : opM (po P pc) < 15 ∧ opM (po P pc) ≠ 8 ∧ opM (po P pc) ≠ 9 ∧ opM (po P pc) ≠ 10 ∧ opM (po P pc) ≠ 11 ∧ opM (po P pc) ≠ 14 := by
      unfold opM
      split
      · omega
      · split <;> omega
    have h20 : a 20 (4000 + d) = nI pc := by
      have := hBv.2.2.2.1 d (by omega)
      rw [hn] at this
      exact this.symm
    rw [mm_stepSerial n2 n4 b2 (by omega) p2 p3 oo.1 f3 f2 h20 (by omega) m1, if_neg, if_neg (by omega)]
    · exact s86_plain hm
    · unfold psB
      rw [if_neg (by omega), if_neg (by omega), if_neg (by omega), decide_eq_false (by omega)]
      decide
  · unfold FkOk
    show ∀ t k p, _ → kkf K1 t k = some p → _
    rw [hs.2.2.1]; exact hF
  · show kkp K1 3 = _
    rw [hs.2.2.2.1]; exact hkp
  · refine ⟨⟨tm + 1, by rw [kW_h _ _ _ _ (by decide), h409, t1, nI_1], by rw [h1352, t2, nI_1], by omega⟩, ?_, by rw [h28, t5, nI_1], by rw [kW_h _ _ _ _ (by decide)]; exact h1002, hcl⟩
    unfold kW
    rw [kh_I, if_pos ⟨rfl, rfl, rfl, rfl⟩, h1003, t4, nI_1]
  · refine FbI.of (hv.oth (fun g kd t' k q => kW_h _ _ _ _ (by omega)) (fun _ _ _ _ _ => rfl) (fun _ _ => rfl)) (FbT.top hBt (fun k hk => ?_) hpc' (by rw [kW_h _ _ _ _ (by omega)]; exact hn') hh')
    rw [kW_h _ _ _ _ (by omega)]; exact hk7 k hk
  · refine hQ.same ⟨fun g kd t k q => ?_, hs.2.1, hs.2.2.1, hs.2.2.2.1, hs.2.2.2.2.1, hs.2.2.2.2.2.1, hs.2.2.2.2.2.2.trans (oS_I (by omega))⟩ (by omega)
    rw [kW_h _ _ _ _ (by omega)]; exact hs.1 g kd t k q
theorem SameS.trans {K2 : KS} {f2 : MF} {a2 : MA} (h1 : SameS K K1 f f' a a') (h2 : SameS K1 K2 f' f2 a' a2) : SameS K K2 f f2 a a2 :=
  ⟨fun g kd t k q => (h2.1 g kd t k q).trans (h1.1 g kd t k q), fun kd t k i q => (h2.2.1 kd t k i q).trans (h1.2.1 kd t k i q), h2.2.2.1.trans h1.2.2.1, h2.2.2.2.1.trans h1.2.2.2.1, fun g q => (h2.2.2.2.2.1 g q).trans (h1.2.2.2.2.1 g q), fun j q => (h2.2.2.2.2.2.1 j q).trans (h1.2.2.2.2.2.1 j q), h1.2.2.2.2.2.2.trans h2.2.2.2.2.2.2⟩
theorem sS_I {g kd t k : Nat} {v : Int32} (hg : g = 409 ∨ g = 702 ∨ g = 503 ∨ g = 1002 ∨ g = 1003) (ho : kd = 2 ∨ kd = 6 ∨ ((kd = 4 ∨ kd = 5) ∧ t = 100)) : SameS K (ksI K g kd t k v) f f a a :=
  ⟨fun g' _ _ _ q => if_neg (fun z => by have z1 := z.1; omega), fun _ _ _ _ _ => rfl, rfl, rfl, fun _ _ => rfl, fun _ _ => rfl, oS_I ho⟩
theorem sS_A {kd t k i : Nat} {v : Int32} (hg : kd = 40 ∨ kd = 41 ∨ kd = 20) (ho : (20 ≤ kd ∧ kd < 30) ∨ ((kd = 40 ∨ kd = 41) ∧ t = 100)) : SameS K (ksA K kd t k i v) f f a a :=
  ⟨fun _ _ _ _ _ => rfl, fun kd' _ _ _ q => if_neg (fun z => by have z1 := z.1; omega), rfl, rfl, fun _ _ => rfl, fun _ _ => rfl, oS_A ho⟩
theorem sS_a {j i : Nat} {v : Int32} (hj : (j = 20 ∧ 4000 ≤ i) ∨ (j = 22 ∧ 104000 ≤ i) ∨ (j = 23 ∧ 6400 ≤ i) ∨ (j = 24 ∧ i = 100) ∨ (j = 26 ∧ i < 32) ∨ (j = 27 ∧ i = 0) ∨ (j = 28 ∧ i = 0)) : SameS K K f f a (u2 a j i v) :=
  ⟨fun _ _ _ _ _ => rfl, fun _ _ _ _ _ => rfl, rfl, rfl, fun _ _ => rfl, fun j' q => u2_o (by omega), oS_a (by omega)⟩
theorem sS_f {v : Int32} : SameS K K f (u1 f 1352 v) a a := ⟨fun _ _ _ _ _ => rfl, fun _ _ _ _ _ => rfl, rfl, rfl, fun g q => u1_n q, fun _ _ => rfl, oS_f (by omega)⟩
theorem sS_nx {v : Int32} : SameS K (kNx K 2 100 d pc) f (u1 f 1352 v) a (nxA a d pc) := by
  unfold kNx kSp nxA
  rw [if_pos rfl]
  exact (((((sS_I (by omega) (by omega)).trans (sS_I (by omega) (by omega)))).trans sS_f).trans (sS_a (by omega))).trans (sS_a (by omega))
theorem sS_push {h : Nat} {v : Int32} : SameS K (kPush K 100 h v) f f a a := (sS_A (by omega) (by omega)).trans (sS_I (by omega) (by omega))
/-- behind the head of an instruction -/
theorem nxV (hB : FbV G K a 100 (d + 1) h) : FbV G (kNx K 2 100 d pc) (nxA a d pc) 100 (d + 1) h := by
  unfold kNx nxA kSp
  rw [if_pos rfl]
  refine FbV.nx (hB.oth (fun g kd t' k q => ?_) (fun _ _ _ _ _ => rfl) (fun j q => u2_o (by omega)))
  rw [kh_I, if_neg (by omega)]
theorem nx409 : kkh (kNx K 2 100 d pc) 409 2 0 0 = kkh K 409 2 0 0 + 1 := by
  unfold kNx
  rw [kh_I, if_neg (by omega), kh_S, if_pos ⟨rfl, rfl, rfl, rfl, rfl⟩]
theorem nx_h {g kd t k : Nat} (h1 : g ≠ 409) (h2 : ¬ (g = 702 ∧ k = d)) : kkh (kNx K 2 100 d pc) g kd t k = kkh K g kd t k := by
  unfold kNx
  rw [kh_I, if_neg (fun z => h2 ⟨z.1, z.2.2.2⟩), kh_S, if_neg (fun z => h1 z.2.1)]
theorem nx702 : kkh (kNx K 2 100 d pc) 702 5 100 d = nI (pc + 1) := by
  unfold kNx
  rw [kh_I, if_pos ⟨rfl, rfl, rfl, rfl⟩]
theorem nxA28 : nxA a d pc 28 0 = a 28 0 + 1 := by unfold nxA; rw [u2_n (by omega), u2_s]
theorem nxA_o {j i : Nat} (h1 : j ≠ 28) (h2 : j ≠ 20) : nxA a d pc j i = a j i := by unfold nxA; rw [u2_n (fun z => h2 z.1), u2_n (fun z => h1 z.1)]
end SS
