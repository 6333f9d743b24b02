set_option maxRecDepth 100000
/-- arrays copied -/
def cpyI (σ : CS) (a0 a sp dp n : Nat) : CS := mkC (cty σ) (cln σ) (chi σ) (chr σ) (u1 (cai σ) a (va_cpy (cai σ a0) (cai σ a) sp dp n)) (car σ) (csz σ)
def cpyR (σ : CS) (a0 a sp dp n : Nat) : CS := mkC (cty σ) (cln σ) (chi σ) (chr σ) (cai σ) (u1 (car σ) a (va_cpy (car σ a0) (car σ a) sp dp n)) (csz σ)
/-- the classes of which lists hold objects: Instruction, Fiber, Frame, Race -/
def isEl (t : Nat) : Bool := t == 4 || t == 6 || t == 8 || t == 9
def elOk (σ : CS) (a n : Nat) : Bool := (List.range n).all fun i => match car σ a i with | none => true | some y => isEl (cty σ y)
theorem isEl_spec {t : Nat} (h : isEl t = true) : ∃ (ci : Nat) (r : vw_C), t = ci + 1 ∧ cls_[ci]? = some r ∧ Cond.castable r.1 "java/lang/Object" ∈ lw_tbl := by
  unfold isEl at h
  simp only [Bool.or_eq_true, beq_iff_eq] at h
  rcases h with ((h | h) | h) | h
  · exact ⟨3, _, h, rfl, q1908⟩
  · exact ⟨5, _, h, rfl, q1904⟩
  · exact ⟨7, _, h, rfl, q1909⟩
  · exact ⟨8, _, h, rfl, q1911⟩
section SP
variable {Γ : GT} {J J' : JT} {d d' pc : Nat} {lv : List (Nat × Value)} {st rest av As : List Value} {σ σ1 : CS} {bc bs bc' bs' : Nat} {out : Outcome × CS} {v : Option Value} {a a0 b idx n ci x : Nat} {C : String} {r : vw_C}
theorem clamp_int {z : Int32} (hz : ¬ z < 0) : z.toInt = (z.toNatClampNeg : Int) := by
  have hz0 : (0 : Int) ≤ z.toInt := by
    have := Int32.not_lt.mp hz
    simpa using Int32.le_iff_toInt_le.mp this
  show z.toInt = ((z.toInt.toNat : Nat) : Int)
  omega
theorem acopy_words : nativeFrameWords "java/lang/System" "arraycopy" 5 + 11 ≤ 32 := by decide
theorem Ex_copyI {sp dp n : Int32} (ht0 : cty σ a0 = 50) (ht : cty σ a = 50) (h1 : ¬ sp < 0) (h2 : ¬ dp < 0) (h3 : ¬ n < 0) (h4 : sp.toNatClampNeg + n.toNatClampNeg ≤ cln σ a0) (h5 : dp.toNatClampNeg + n.toNatClampNeg ≤ cln σ a)
    (hl' : Cond.methodLink (jy J).cls idx arraycopyName ∈ lw_all) (hnat : Cond.native arraycopyName ∈ lw_all) (hstat : Cond.static arraycopyName ∈ lw_all) (hini : Cond.initialized "java/lang/System" ∈ lw_all) (hd : 1 ≤ d) (hw : (rest.map fun v => v.category).sum ≤ 8) (hdg : decode (jc J) pc = .ok (.invokestatic idx, 3))
    (k : Ex Γ J d (pc + 3) lv rest (cpyI σ a0 a sp.toNatClampNeg dp.toNatClampNeg n.toNatClampNeg) bc bs out) : Ex Γ J d pc lv (.int n :: .int dp :: .ref a :: .int sp :: .ref a0 :: rest) σ bc bs out := by
  intro A p e s m args below meth c H locs cells slots mc ms ls Cx hl hI g1 g2 T hT X
  subst hT
  have hc0 := (hI.1.2.2.2.1 a0).2.1 ht0
  have hc1 := (hI.1.2.2.2.1 a).2.1 ht
  obtain ⟨-, k0, hk0, cm0, hkk0⟩ := (Cx.kn.2 0 _ rfl).1 (cln σ a0) (fun j => .int (cai σ a0 j))
  obtain ⟨-, k1, hk1, cm1, hkk1⟩ := (Cx.kn.2 0 _ rfl).1 (cln σ a) (fun j => .int (cai σ a j))
  obtain ⟨vm', X', step⟩ := X.arraycopy Cx.1 Cx.own (Cx.ts _ hl') (Cx.ts _ hnat) (Cx.ts _ hstat) (Cx.ts _ hini) (src := a0) (dst := a) (srcPos := sp) (destPos := dp) (n := n) hc0 hc1
    (fun _ h => by cases h) (fun _ h => by cases h) (fun h => by cases h) (fun h => by cases h) hk0 hk1 hkk0 hkk1 rfl h1 h2 h3
    (by rw [clamp_int h1, clamp_int h3]; show ¬ _ > ((arrV _ _ (fun j => .int (cai σ a0 j))).slots.size : Int); rw [arrV_size]; omega)
    (by rw [clamp_int h2, clamp_int h3]; show ¬ _ > ((arrV _ _ (fun j => .int (cai σ a j))).slots.size : Int); rw [arrV_size]; omega)
    (fun vm₁ _ i hi => by
      have e : (vp_cell (gA Γ 0) (cln σ a0, .inl (cai σ a0))).slots.getD (sp.toNatClampNeg + i) .null = .int (cai σ a0 (sp.toNatClampNeg + i)) := by
        show (arrV _ _ (fun j => .int (cai σ a0 j))).slots.getD _ _ = _
        rw [Array.getD_eq_getD_getElem?, arrV_read _ _ (by omega)]
        rfl
      rw [e]
      exact ⟨rfl, trivial⟩)
    (g := F0 m pc ls (.int n :: .int dp :: .ref a :: .int sp :: .ref a0 :: rest)) rfl (hl.1.trans Cx.ml.symm) (rest := rest) rfl (by rw [Cx.2.1]; exact hdg) hd (by have hn := acopy_words; show 2 * 0 + _ + (nativeFrameWords "java/lang/System" "arraycopy" 5 + 11) ≤ 40 * d; omega)
  have e1 : copied (vp_cell (gA Γ 0) (cln σ a0, .inl (cai σ a0))) (vp_cell (gA Γ 0) (cln σ a, .inl (cai σ a))) sp dp n = vp_cell (gA Γ 0) (cln σ a, .inl (va_cpy (cai σ a0) (cai σ a) sp.toNatClampNeg dp.toNatClampNeg n.toNatClampNeg)) := va_copied (fun z => .int z) _ _ _ _ h4
  rw [e1] at X' step
  generalize hv : vp_cell (gA Γ 0) (cln σ a, .inl (va_cpy (cai σ a0) (cai σ a) sp.toNatClampNeg dp.toNatClampNeg n.toNatClampNeg)) = cv at X' step
  have hla : a < T.heap.size := (Array.getElem?_eq_some_iff.mp hc1).1
  have oq : ∀ q : Nat, q ≠ a → (T.heap.setIfInBounds a cv)[q]? = T.heap[q]? := fun q hq => by simp [Array.getElem?_setIfInBounds, Ne.symm hq]
  have z1 : (T.heap.setIfInBounds a cv).size = T.heap.size := by simp
  have za : (T.heap.setIfInBounds a cv)[a]? = some cv := by simp [Array.getElem?_setIfInBounds, hla]
  have hI' := hI.upd (k := 0) (σ' := cpyI σ a0 a sp.toNatClampNeg dp.toNatClampNeg n.toNatClampNeg) (a := a) (by omega) z1 oq rfl rfl rfl (fun b hb => ⟨fun _ => rfl, fun _ => rfl, (by show (if b = a then _ else cai σ b) = _; rw [if_neg hb]), rfl⟩) (by
    have ht' : cty (cpyI σ a0 a sp.toNatClampNeg dp.toNatClampNeg n.toNatClampNeg) a = 50 := ht
    refine ⟨fun ci q h hc => by have := cls_lt hc; omega, fun _ => ?_, fun h => by omega, fun h => by omega, fun h => by omega⟩
    rw [za, ← hv]
    show some (vp_cell _ (cln σ a, .inl _)) = some (vp_cell _ (cln σ a, .inl (if a = a then _ else _)))
    rw [if_pos rfl])
  obtain ⟨t, a1, b1⟩ := k A p e s m args below meth c (T.heap.setIfInBounds a cv) _ cells slots mc ms ls Cx hl (⟨hI'.1, ⟨hI'.2.1.1, hI'.2.1.2.1, fun q hq => by
      rcases List.mem_append.mp hq with h | h
      · exact hI.2.1.2.2 q h
      · obtain ⟨z, -, hz⟩ := List.mem_map.mp h
        rw [← hz]
        exact hI.2.2.1 a (by omega)⟩, hI'.2.2⟩) g1 g2 _ rfl X'
  exact ⟨t, step t a1, b1⟩
theorem Ex_copyR {sp dp n : Int32} (ht0 : cty σ a0 = 53) (ht : cty σ a = 53) (h1 : ¬ sp < 0) (h2 : ¬ dp < 0) (h3 : ¬ n < 0) (h0 : sp.toNatClampNeg = 0) (h4 : n.toNatClampNeg ≤ cln σ a0) (h5 : dp.toNatClampNeg + n.toNatClampNeg ≤ cln σ a) (hel : elOk σ a0 n.toNatClampNeg = true)
    (hl' : Cond.methodLink (jy J).cls idx arraycopyName ∈ lw_all) (hnat : Cond.native arraycopyName ∈ lw_all) (hstat : Cond.static arraycopyName ∈ lw_all) (hini : Cond.initialized "java/lang/System" ∈ lw_all) (hd : 1 ≤ d) (hw : (rest.map fun v => v.category).sum ≤ 8) (hdg : decode (jc J) pc = .ok (.invokestatic idx, 3))
    (k : Ex Γ J d (pc + 3) lv rest (cpyR σ a0 a sp.toNatClampNeg dp.toNatClampNeg n.toNatClampNeg) bc bs out) : Ex Γ J d pc lv (.int n :: .int dp :: .ref a :: .int sp :: .ref a0 :: rest) σ bc bs out := by
  intro A p e s m args below meth c H locs cells slots mc ms ls Cx hl hI g1 g2 T hT X
  subst hT
  have hc0 := (hI.1.2.2.2.1 a0).2.2.2.2 ht0
  have hc1 := (hI.1.2.2.2.1 a).2.2.2.2 ht
  obtain ⟨-, k0, hk0, cm0, hkk0⟩ := (Cx.kn.2 3 _ rfl).1 (cln σ a0) (fun j => va_rf (car σ a0 j))
  obtain ⟨-, k1, hk1, cm1, hkk1⟩ := (Cx.kn.2 3 _ rfl).1 (cln σ a) (fun j => va_rf (car σ a j))
  obtain ⟨vm', X', step⟩ := X.arraycopy Cx.1 Cx.own (Cx.ts _ hl') (Cx.ts _ hnat) (Cx.ts _ hstat) (Cx.ts _ hini) (src := a0) (dst := a) (srcPos := sp) (destPos := dp) (n := n) hc0 hc1
    (fun _ h => by cases h) (fun _ h => by cases h) (fun h => by cases h) (fun h => by cases h) hk0 hk1 hkk0 hkk1 rfl h1 h2 h3
    (by rw [clamp_int h1, clamp_int h3]; show ¬ _ > ((arrV _ _ (fun j => va_rf (car σ a0 j))).slots.size : Int); rw [arrV_size]; omega)
    (by rw [clamp_int h2, clamp_int h3]; show ¬ _ > ((arrV _ _ (fun j => va_rf (car σ a j))).slots.size : Int); rw [arrV_size]; omega)
    (fun vm₁ hal i hi => by
      have e : (vp_cell (gA Γ 3) (cln σ a0, .inr (.inr (.inr (.inr (car σ a0)))))).slots.getD (sp.toNatClampNeg + i) .null = va_rf (car σ a0 (sp.toNatClampNeg + i)) := by
        show (arrV _ _ (fun j => va_rf (car σ a0 j))).slots.getD _ _ = _
        rw [Array.getD_eq_getD_getElem?, arrV_read _ _ (by omega)]
        rfl
      rw [e]
      have hq := List.all_eq_true.mp hel i (List.mem_range.mpr hi)
      rw [h0, Nat.zero_add]
      cases hy : car σ a0 i with
      | none => exact ⟨rfl, trivial⟩
      | some y =>
        rw [hy] at hq
        obtain ⟨ci, r, ht1, hcr, hca⟩ := isEl_spec hq
        obtain ⟨cellV, g1, g2, g3, -⟩ := (hI.1.2.2.2.1 y).1 ci r ht1 hcr
        obtain ⟨kA, comp, r1, r2, r3, -⟩ := (Cx.kn.2 3 _ rfl).2
        cases hk1.symm.trans r1
        cases hkk1.symm.trans r2
        obtain ⟨c0, t1, f1, f2, f3⟩ := Cond.castable_spec (va_Nw.use (A := args) rfl (Cx.kw _ hca rfl))
        have hcl := (Cx.kn.1 ci r hcr).2.1
        cases hcl.symm.trans f1
        cases r3.symm.trans f2
        obtain ⟨kC, hkC, -⟩ := Vm.findClass_spec hcl
        obtain ⟨kE, hkE, -⟩ := Vm.findClass_spec r3
        obtain ⟨kC', hkC', -⟩ := hal.2.2 _ _ hkC
        obtain ⟨kE', hkE', -⟩ := hal.2.2 _ _ hkE
        refine ⟨rfl, cellV, g1, (fun q h => by rw [g3] at h; cases h), ⟨kC', by rw [g2]; exact hkC'⟩, ⟨kE', hkE'⟩, ?_⟩
        show vm₁.assignable _ _ = true
        rw [hal.assignable, g2]
        exact f3)
    (g := F0 m pc ls (.int n :: .int dp :: .ref a :: .int sp :: .ref a0 :: rest)) rfl (hl.1.trans Cx.ml.symm) (rest := rest) rfl (by rw [Cx.2.1]; exact hdg) hd (by have hn := acopy_words; show 2 * 0 + _ + (nativeFrameWords "java/lang/System" "arraycopy" 5 + 11) ≤ 40 * d; omega)
  have e1 : copied (vp_cell (gA Γ 3) (cln σ a0, .inr (.inr (.inr (.inr (car σ a0)))))) (vp_cell (gA Γ 3) (cln σ a, .inr (.inr (.inr (.inr (car σ a)))))) sp dp n = vp_cell (gA Γ 3) (cln σ a, .inr (.inr (.inr (.inr (va_cpy (car σ a0) (car σ a) sp.toNatClampNeg dp.toNatClampNeg n.toNatClampNeg))))) := by
    rw [vp_cell_q, vp_cell_q, vp_cell_q]
    exact va_copied (fun z => va_rf z) _ _ _ _ (by omega)
  rw [e1] at X' step
  generalize hv : vp_cell (gA Γ 3) (cln σ a, .inr (.inr (.inr (.inr (va_cpy (car σ a0) (car σ a) sp.toNatClampNeg dp.toNatClampNeg n.toNatClampNeg))))) = cv at X' step
  have hla : a < T.heap.size := (Array.getElem?_eq_some_iff.mp hc1).1
  have oq : ∀ q : Nat, q ≠ a → (T.heap.setIfInBounds a cv)[q]? = T.heap[q]? := fun q hq => by simp [Array.getElem?_setIfInBounds, Ne.symm hq]
  have z1 : (T.heap.setIfInBounds a cv).size = T.heap.size := by simp
  have za : (T.heap.setIfInBounds a cv)[a]? = some cv := by simp [Array.getElem?_setIfInBounds, hla]
  have hI' := hI.upd (k := 0) (σ' := cpyR σ a0 a sp.toNatClampNeg dp.toNatClampNeg n.toNatClampNeg) (a := a) (by omega) z1 oq rfl rfl rfl (fun b hb => ⟨fun _ => rfl, fun _ => rfl, rfl, (by show (if b = a then _ else car σ b) = _; rw [if_neg hb])⟩) (by
    have ht' : cty (cpyR σ a0 a sp.toNatClampNeg dp.toNatClampNeg n.toNatClampNeg) a = 53 := ht
    refine ⟨fun ci q h hc => by have := cls_lt hc; omega, fun h => by omega, fun h => by omega, fun h => by omega, fun _ => ?_⟩
    rw [za, ← hv]
    show some (vp_cell _ (cln σ a, .inr (.inr (.inr (.inr _))))) = some (vp_cell _ (cln σ a, .inr (.inr (.inr (.inr (if a = a then _ else _))))))
    rw [if_pos rfl])
  obtain ⟨t, a1, b1⟩ := k A p e s m args below meth c (T.heap.setIfInBounds a cv) _ cells slots mc ms ls Cx hl (⟨hI'.1, ⟨hI'.2.1.1, hI'.2.1.2.1, fun q hq => by
      rcases List.mem_append.mp hq with h | h
      · exact hI.2.1.2.2 q h
      · obtain ⟨z, -, hz⟩ := List.mem_map.mp h
        rw [← hz]
        exact hI.2.2.1 a (by omega)⟩, hI'.2.2⟩) g1 g2 _ rfl X'
  exact ⟨t, step t a1, b1⟩
/-- null into an array of Objects -/
theorem Ex_aastoreN {i : Int32} (ht : cty σ a = 53) (hin : ib i (cln σ a) = true) (hdg : decode (jc J) pc = .ok (.aastore, 1)) (kk : Ex Γ J d (pc + 1) lv rest (putR σ a i.toNatClampNeg none) bc bs out) : Ex Γ J d pc lv (.null :: .int i :: .ref a :: rest) σ bc bs out := by
  intro A p e s m args below meth c H locs cells slots mc ms ls C hl hI h1 h2
  have hvi := ib_in hin
  have hlt : i.toNatClampNeg < cln σ a := Nat.not_le.mp fun q => hvi (Or.inr q)
  have h0 : ¬ i < 0 := fun q => hvi (Or.inl q)
  refine va_WaastN (C := "java/lang/Object") C.1 C.2.1 ((hI.1.2.2.2.1 a).2.2.2.2 ht) ((C.kn.2 3 _ rfl).1 (cln σ a) (fun j => va_rf (car σ a j))) (fun h => by cases h) (by show ¬ (i < 0 ∨ (arrV _ _ _).slots.size ≤ _); rw [arrV_size]; exact hvi) rfl rfl hdg fun H1 x1 z oq => ?_
  refine kk A p e s m args below meth c H1 _ cells slots mc ms ls C hl (hI.upd (σ' := putR σ a i.toNatClampNeg none) (by omega) z oq rfl rfl rfl (putR_o σ a _ _) ?_) h1 h2
  have ht' : cty (putR σ a i.toNatClampNeg none) a = 53 := ht
  refine ⟨fun ci q h hc => by have := cls_lt hc; omega, fun h => by omega, fun h => by omega, fun h => by omega, fun _ => ?_⟩
  rw [x1, vp_cell_q, vp_cell_q, arrV_store, car_put]
  rfl
/-- the class object of Object[], by getClass and by a constant -/
theorem Ex_getC (ht : cty σ a = 53) (hl' : Cond.methodLink (jy J).cls idx ⟨"java/lang/Object", "getClass", "()Ljava/lang/Class;"⟩ ∈ lw_all) (hd : 1 ≤ d) (hw : (rest.map fun v => v.category).sum ≤ 8) (hdg : decode (jc J) pc = .ok (.invokevirtual idx, 3))
    (k : Ex Γ J d (pc + 3) lv (.ref (gO Γ 100) :: rest) σ bc bs out) : Ex Γ J d pc lv (.ref a :: rest) σ bc bs out := by
  intro A p e s m args below meth c H locs cells slots mc ms ls C hl hI h1 h2
  refine va_getC (C := "[Ljava/lang/Object;") C.1 C.2.1 (C.ml.trans hl.1.symm) C.own (C.ts _ hl') (va_Dc.use C.kz.2.2.2.2.1) (C.ts _ q1895) (C.ts _ q805) (C.ts _ q825) C.kz.2.2.2.1 ⟨_, (hI.1.2.2.2.1 a).2.2.2.2 ht, rfl, ?_⟩ hd (by show _ + 14 ≤ 40 * d; omega) hdg (k A p e s m args below meth c H locs cells slots mc ms ls C hl hI h1 h2)
  exact va_nmO (C.kn.2 3 _ rfl).2 (by decide)
theorem Ex_ldcM (hl' : Cond.classLink (jy J).cls idx "[Ljava/lang/Object;" ∈ lw_all) (hdg : decode (jc J) pc = .ok (.ldc idx, 2)) (k : Ex Γ J d (pc + 2) lv (.ref (gO Γ 100) :: rest) σ bc bs out) : Ex Γ J d pc lv rest σ bc bs out :=
  fun A p e s m args below meth c H locs cells slots mc ms ls C hl hI h1 h2 => va_ldcM C.1 C.2.1 C.own (C.ts _ hl') C.kz.2.2.2.1 hdg (k A p e s m args below meth c H locs cells slots mc ms ls C hl hI h1 h2)
/-- an enum's constant -/
theorem Ex_getop {i : Nat} {nm : String} (hi : opN[i]? = some nm) (hl' : Cond.fieldLink (jy J).cls idx "ForkJoinDesk$Op" nm "LForkJoinDesk$Op;" ∈ lw_all) (hdg : decode (jc J) pc = .ok (.getstatic idx, 3)) (k : Ex Γ J d (pc + 3) lv (.ref (gO Γ i) :: rest) σ bc bs out) : Ex Γ J d pc lv rest σ bc bs out := by
  intro A p e s m args below meth c H locs cells slots mc ms ls C hl hI h1 h2
  obtain ⟨cf, kf, fi, f, z, cell, x1, x2, x3, x4, x5, x6, x7, x8⟩ := (C.kz.1 i nm hi).1
  exact W.gets C.1 C.2.1 C.own (C.ts _ hl') x1 x2 x3 x4 (by rw [hI.1.2.2.1 z (Nat.not_le.mp x8)]; exact x5) (fun e => by rw [e] at x6; cases x6) x7 rfl hdg (k A p e s m args below meth c H locs cells slots mc ms ls C hl hI h1 h2)
/-- a call that is bound by the receiver's class -/
def CallU (own : String) (idx : Nat) (J' : JT) (C owner : String) (x : MethodName) (n : Nat) : Prop := Cond.methodLink own idx x ∈ lw_all ∧ Cond.sameMethod x.cls owner x.name x.desc ∈ lw_all ∧ Cond.selects C x (jy J') ∈ lw_all ∧ Cond.instanceMethod (jy J') ∈ lw_all ∧ Cond.initialized (jy J').cls ∈ lw_all ∧ Cond.declares ⟨owner, x.name, x.desc⟩ ∈ lw_tbl ∧ Cond.code (jy J') (jc J') (jn J') (jr J') ∈ lw_all ∧
  (owner ≠ "java/lang/invoke/MethodHandle" ∧ owner ≠ "java/lang/invoke/VarHandle" ∧ (parseMethodDescriptor x.desc).map (fun d => d.parameters.length) = some n) ∧ jn J' ≤ 21
theorem lw_U {own C owner : String} {x : MethodName} (hK : CallU own idx J' C owner x n) : GoodIn lw_all (va_wsU own idx C owner x (jy J') (ws_ (jy J') (jc J') (jn J') (jr J'))) := by
  obtain ⟨k1, k2, k3, k4, k5, k6, k7, k8, k9⟩ := hK
  refine lw_app ?_ (lw_meth k7)
  intro w hw
  simp only [List.mem_cons, List.not_mem_nil, or_false] at hw
  rcases hw with rfl | rfl | rfl | rfl | rfl <;> assumption
theorem Ex_callU {x : MethodName} {owner : String} (h : CM Γ J' d' (.ref b :: As) σ bc' bs' (.returned v, σ1)) (hK : CallU (jy J).cls idx J' r.1 owner x n) (hb : cty σ b = ci + 1) (hc : cls_[ci]? = some r) (hd : d' + 1 ≤ d) (hn : As.length = n) (hst : st = As.reverse ++ .ref b :: rest) (hw : (rest.map fun v => v.category).sum ≤ 8) (hdg : decode (jc J) pc = .ok (.invokevirtual idx, 3))
    (k : Ex Γ J d (pc + 3) lv (v.toList ++ rest) σ1 bc bs out) : Ex Γ J d pc lv st σ (bc' + bc) (bs' + bs) out := by
  intro A p e s m args below meth c H locs cells slots mc ms ls X hl hI h1 h2
  subst hst
  have hU := lw_U hK
  obtain ⟨k1, k2, k3, k4, k5, k6, k7, k8, k9⟩ := hK
  obtain ⟨cellV, g1, g2, g3, -⟩ := (hI.1.2.2.2.1 b).1 ci r hb hc
  exact run_go X hl hI (va_runU (As := As) (rest := rest) ⟨X.1, X.2.1, X.ml, X.own, X.ts⟩ h.met (va_cwA n X.ts hU rfl rfl rfl (X.kw _ k6 rfl) k8 ⟨hd, by show 8 + (jn J' + 11) + 40 * d' ≤ 40 * d; omega⟩)
    ⟨Pcx.blind, ⟨cellV, g1, by rw [g3]; rfl, by rw [g2]; exact (X.kn.1 ci r hc).2.1⟩, Pcx.at X hI⟩ rfl hn hl.1 rfl (lv_room hw) hdg ⟨by show cells + bc' ≤ mc; omega, by show slots + bs' ≤ ms; omega⟩) k h1 h2
/-- .. on an enum's constant -/
theorem Ex_callO {x : MethodName} {owner : String} {i : Nat} {nm : String} (hi : opN[i]? = some nm) (h : CM Γ J' d' [.ref (gO Γ i)] σ bc' bs' (.returned v, σ1)) (hK : CallU (jy J).cls idx J' "ForkJoinDesk$Op" owner x 0) (hd : d' + 1 ≤ d) (hw : (rest.map fun v => v.category).sum ≤ 8) (hdg : decode (jc J) pc = .ok (.invokevirtual idx, 3))
    (k : Ex Γ J d (pc + 3) lv (v.toList ++ rest) σ1 bc bs out) : Ex Γ J d pc lv (.ref (gO Γ i) :: rest) σ (bc' + bc) (bs' + bs) out := by
  intro A p e s m args below meth c H locs cells slots mc ms ls X hl hI h1 h2
  have hU := lw_U hK
  obtain ⟨k1, k2, k3, k4, k5, k6, k7, k8, k9⟩ := hK
  obtain ⟨cellV, g1, g2, g3, g4⟩ := (X.kz.1 i nm hi).2.1
  exact run_go X hl hI (va_runU (As := []) (rest := rest) ⟨X.1, X.2.1, X.ml, X.own, X.ts⟩ h.met (va_cwA 0 X.ts hU rfl rfl rfl (X.kw _ k6 rfl) k8 ⟨hd, by show 8 + (jn J' + 11) + 40 * d' ≤ 40 * d; omega⟩)
    ⟨Pcx.blind, ⟨cellV, by rw [hI.1.2.2.1 _ (Nat.not_le.mp g4)]; exact g1, g2, g3⟩, Pcx.at X hI⟩ rfl rfl hl.1 rfl (lv_room hw) hdg ⟨by show cells + bc' ≤ mc; omega, by show slots + bs' ≤ ms; omega⟩) k h1 h2
/-- a constant's ordinal -/
theorem Ex_getOrd {i : Nat} {nm : String} (hi : opN[i]? = some nm) (hl' : Cond.fieldLink (jy J).cls idx "java/lang/Enum" "ordinal" "I" ∈ lw_all) (hdg : decode (jc J) pc = .ok (.getfield idx, 3)) (k : Ex Γ J d (pc + 3) lv (.int (nI i) :: rest) σ bc bs out) : Ex Γ J d pc lv (.ref (gO Γ i) :: rest) σ bc bs out := by
  intro A p e s m args below meth c H locs cells slots mc ms ls C hl hI h1 h2
  obtain ⟨cf, kf, fi, f, cell, x1, x2, x3, x4, x5, x6⟩ := (C.kz.1 i nm hi).2.2
  exact W.getf C.1 C.2.1 C.own (C.ts _ hl') x1 x2 (by rw [hI.1.2.2.1 _ (Nat.not_le.mp x6)]; exact x3) x4 x5 rfl rfl hdg (k A p e s m args below meth c H locs cells slots mc ms ls C hl hI h1 h2)
/-- a nest mate's constructor -/
def CallIN (own : String) (idx : Nat) (J' : JT) (host : String) (n : Nat) : Prop := Cond.methodLinkNest own idx (jy J') host ∈ lw_tbl ∧ Cond.instanceMethod (jy J') ∈ lw_all ∧ Cond.initialized (jy J').cls ∈ lw_all ∧ Cond.code (jy J') (jc J') (jn J') none ∈ lw_all ∧ jr J' = none ∧ (jy J').name = "<init>" ∧
  ((jy J').cls ≠ "java/lang/invoke/MethodHandle" ∧ (jy J').cls ≠ "java/lang/invoke/VarHandle" ∧ (parseMethodDescriptor (jy J').desc).map (fun d => d.parameters.length) = some n) ∧ jn J' ≤ 21
theorem Ex_callIN {host : String} (h : CM Γ J' d' (.ref b :: As) σ bc' bs' (.returned none, σ1)) (hK : CallIN (jy J).cls idx J' host n) (hd : d' + 1 ≤ d) (hn : As.length = n) (hst : st = As.reverse ++ .ref b :: rest) (hw : (rest.map fun v => v.category).sum ≤ 8) (hdg : decode (jc J) pc = .ok (.invokespecial idx, 3))
    (k : Ex Γ J d (pc + 3) lv rest σ1 bc bs out) : Ex Γ J d pc lv st σ (bc' + bc) (bs' + bs) out := by
  intro A p e s m args below meth c H locs cells slots mc ms ls X hl hI h1 h2
  subst hst
  obtain ⟨k1, k2, k3, k4, k5, k6, k7, k8⟩ := hK
  have hM := h.met
  rw [k5] at hM
  exact run_go (v := none) X hl hI (va_runIN (As := As) (rest := rest) ⟨X.1, X.2.1, X.ml, X.own, X.ts⟩ hM ⟨va_cnB n X.ts (lw_meth k4) rfl rfl rfl (X.kw _ k1 rfl) (X.ts _ k3) k7 ⟨hd, by show 8 + (jn J' + 11) + 40 * d' ≤ 40 * d; omega⟩, k6, X.ts _ k2⟩
    ⟨Pcx.blind, Pcx.at X hI⟩ rfl hn hl.1 rfl (lv_room hw) hdg ⟨by show cells + bc' ≤ mc; omega, by show slots + bs' ≤ ms; omega⟩) k h1 h2
/-- super's method -/
def CallSU (own : String) (idx : Nat) (J' : JT) (n : Nat) : Prop := Cond.methodLink own idx (jy J') ∈ lw_all ∧ Cond.sameMethod (jy J').cls (jy J').cls (jy J').name (jy J').desc ∈ lw_all ∧ Cond.superclass own (jy J').cls ∈ lw_all ∧ Cond.instanceMethod (jy J') ∈ lw_all ∧ Cond.initialized (jy J').cls ∈ lw_all ∧ Cond.code (jy J') (jc J') (jn J') (jr J') ∈ lw_all ∧
  ((jy J').name ≠ "<init>" ∧ (parseMethodDescriptor (jy J').desc).map (fun d => d.parameters.length) = some n) ∧ jn J' ≤ 21
theorem Ex_callSU (h : CM Γ J' d' (.ref b :: As) σ bc' bs' (.returned v, σ1)) (hK : CallSU (jy J).cls idx J' n) (hb : cty σ b = ci + 1) (hc : cls_[ci]? = some r) (hd : d' + 1 ≤ d) (hn : As.length = n) (hst : st = As.reverse ++ .ref b :: rest) (hw : (rest.map fun v => v.category).sum ≤ 8) (hdg : decode (jc J) pc = .ok (.invokespecial idx, 3))
    (k : Ex Γ J d (pc + 3) lv (v.toList ++ rest) σ1 bc bs out) : Ex Γ J d pc lv st σ (bc' + bc) (bs' + bs) out := by
  intro A p e s m args below meth c H locs cells slots mc ms ls X hl hI h1 h2
  subst hst
  obtain ⟨k1, k2, k3, k4, k5, k6, k7, k8⟩ := hK
  have hU : GoodIn lw_all (va_wsSU (jy J).cls idx (jy J') (ws_ (jy J') (jc J') (jn J') (jr J'))) := by
    refine lw_app ?_ (lw_meth k6)
    intro w hw
    simp only [List.mem_cons, List.not_mem_nil, or_false] at hw
    rcases hw with rfl | rfl | rfl | rfl | rfl <;> assumption
  obtain ⟨cellV, g1, g2, g3, -⟩ := (hI.1.2.2.2.1 b).1 ci r hb hc
  exact run_go X hl hI (va_runSU (As := As) (rest := rest) (X.kn.1 ci r hc).2 ⟨X.1, X.2.1, X.ml, X.own, X.ts⟩ h.met (va_cwSU n X.ts hU rfl rfl rfl k7 ⟨hd, by show 8 + (jn J' + 11) + 40 * d' ≤ 40 * d; omega⟩)
    ⟨Pcx.blind, ⟨cellV, g1, by rw [g3]; rfl, by rw [g2]; exact (X.kn.1 ci r hc).2.1⟩, Pcx.at X hI⟩ rfl hn hl.1 rfl (lv_room hw) hdg ⟨by show cells + bc' ≤ mc; omega, by show slots + bs' ≤ ms; omega⟩) k h1 h2
/-- null or not -/
theorem Ex_ifnullq {q : Option Nat} {off : Int} {tgt : Nat} (hdg : decode (jc J) pc = .ok (.ifnull off, 3)) (ht : (pc : Int) + off = (tgt : Int)) (kt : q = none → Ex Γ J d tgt lv rest σ bc bs out) (kf : ∀ a, q = some a → Ex Γ J d (pc + 3) lv rest σ bc bs out) : Ex Γ J d pc lv (va_rf q :: rest) σ bc bs out := by
  cases q with
  | none => exact Ex_ifnullN hdg ht (kt rfl)
  | some a => exact Ex_ifnull hdg (kf a rfl)
theorem Ex_ifnonnullq {q : Option Nat} {off : Int} {tgt : Nat} (hdg : decode (jc J) pc = .ok (.ifnonnull off, 3)) (ht : (pc : Int) + off = (tgt : Int)) (kt : q = none → Ex Γ J d (pc + 3) lv rest σ bc bs out) (kf : ∀ a, q = some a → Ex Γ J d tgt lv rest σ bc bs out) : Ex Γ J d pc lv (va_rf q :: rest) σ bc bs out := by
  cases q with
  | none => exact Ex_ifnonnullN hdg (kt rfl)
  | some a => exact Ex_ifnonnull hdg ht (kf a rfl)
end SP
