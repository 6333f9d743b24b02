set_option maxRecDepth 100000
/-- what making an exception of class cls asks of the tables -/
def ExcOK (own : String) (ic : Nat) (cls : String) : Prop := ∀ (s : State) (args : Array Value), (∀ w ∈ lw_all, w.before args s = true) → KW s →
  (Cond.laysStatic Bundle.tN "UNASSIGNED_STACK" Bundle.steD).before args s = true → (Cond.laysStatic Bundle.tN "SUPPRESSED_SENTINEL" Bundle.listD).before args s = true →
  (Cond.isRef (.static Bundle.tN "UNASSIGNED_STACK" Bundle.steD)).before args s = true → (Cond.isRef (.static Bundle.tN "SUPPRESSED_SENTINEL" Bundle.listD)).before args s = true →
  ∀ a ∈ Bundle.ownAtoms0 own ic cls ["java/lang/RuntimeException", "java/lang/Exception"], a.before args s = true
section XC
variable {Γ : GT} {J : JT} {d pc : Nat} {lv : List (Nat × Value)} {rest : List Value} {σ : CS} {bc bs : Nat} {out : Outcome × CS} {ci ic idx : Nat} {q : vw_C} {ty : Nat → FieldType}
theorem LSt.word {n D : String} {s : State} {args : Array Value} (h : LSt Γ n D s) (h0 : ∀ q : Nat, q < (gH Γ).size → s.heap[q]? = (gH Γ)[q]?) : (Cond.laysStatic "java/lang/Throwable" n D).before args s = true := by
  obtain ⟨c, i, a, k, f, cell, v, hc, hi, hst, ha, hcell, hs, hcls, hlt, hty, hv, hr⟩ := h
  have hl : a < (gH Γ).size := (Array.getElem?_eq_some_iff.mp hcell).1
  exact Cond.laysStatic_of hc hi hst ha (by rw [h0 a hl]; exact hcell) hs hcls hlt hty
theorem LSt.ref {n D : String} {s : State} {args : Array Value} (h : LSt Γ n D s) (h0 : ∀ q : Nat, q < (gH Γ).size → s.heap[q]? = (gH Γ)[q]?) : (Cond.isRef (.static "java/lang/Throwable" n D)).before args s = true := by
  obtain ⟨c, i, a, k, f, cell, v, hc, hi, hst, ha, hcell, hs, hcls, hlt, hty, hv, hr⟩ := h
  have hl : a < (gH Γ).size := (Array.getElem?_eq_some_iff.mp hcell).1
  have hcell' : s.heap[a]? = some cell := by rw [h0 a hl]; exact hcell
  have he : (Term.static "java/lang/Throwable" n D).eval args s none [] s = some v := by
    simp [Term.eval, State.fieldNamed?, hi, hst, ha, hcell', hs, hv]
  simp only [Cond.before, Cond.holds, Cond.value]
  rw [he]
  cases v <;> simp_all [Value.isRef]
set_option maxHeartbeats 4000000 in
/-- new, dup, the constructor: an exception is made -/
theorem Ex_newExc (hC : ClsOK ci q ty) (hN : q.2.2 = 0) (hX : ExcOK (jy J).cls ic q.1) (hf : Bundle.fit q.1 = true) (hl' : Cond.classLink (jy J).cls idx q.1 ∈ lw_all) (hins : Cond.instantiable q.1 6 ∈ lw_all) (hini : Cond.initialized q.1 ∈ lw_all) (hd : 6 ≤ d) (hw : (rest.map fun v => v.category).sum ≤ 8)
    (h1 : decode (jc J) pc = .ok (.new idx, 3)) (h2 : decode (jc J) (pc + 3) = .ok (.dup, 1)) (h3 : decode (jc J) (pc + 4) = .ok (.invokespecial ic, 3))
    (kk : Ex Γ J d (pc + 7) lv (.ref (csz σ) :: rest) (newO σ (ci + 1)) bc bs out) : Ex Γ J d pc lv rest σ (bc + 1) (bs + 6) out := by
  intro A p e s m args below meth c H locs cells slots mc ms ls Cx hl hI g1 g2
  have hKn := Cx.kn.1 ci _ hC.1
  refine W.newcK Cx.1 Cx.2.1 Cx.own (Cx.ts _ hl') (Cx.ts _ hins) (Cx.ts _ hini) rfl h1 (by show cells + 1 ≤ mc; omega) (by show slots + 6 ≤ ms; omega) hKn.2.1 hI.1.1 fun H1 kX hkX e1 z1 o1 => ?_
  refine lv_dup (va := .ref (csz σ)) (rest := rest) Cx.1 Cx.2.1 h2 rfl ?_
  intro T hT X
  subst hT
  have hsz := hI.1.1
  have hss : s.heap.size ≤ csz σ := by rw [← hsz]; exact hI.2.1.1
  have w1 := Cx.kz.2.2.1.1.word (args := args) Cx.h0
  have w2 := Cx.kz.2.2.1.2.word (args := args) Cx.h0
  have w3 := Cx.kz.2.2.1.1.ref (args := args) Cx.h0
  have w4 := Cx.kz.2.2.1.2.ref (args := args) Cx.h0
  have h := hX s args Cx.ts Cx.kw w1 w2 w3 w4
  have htr : e.platform.stackTraces = false := by
    have h9 := Cx.kz.2.2.2.2.2.2
    rw [X.admits.platform]
    exact h9
  have howns : e.platform.frameOwnsMonitors = true := by rw [X.admits.platform]
  have hfin : e.platform.finalization = false := by rw [X.admits.platform]
  have hpl : e.platform.magicAccessors = ({} : Platform).magicAccessors := by rw [X.admits.platform]
  have hnames : ∀ n ∈ ["java/lang/RuntimeException", "java/lang/Exception"], Bundle.fit n = true := by decide +kernel
  obtain ⟨Tc, Z, L, LZ, Y⟩ := ThrowableC.of_atoms (args := args) howns hfin hpl (fun x hx => h x (by simp [Bundle.ownAtoms0, hx]))
  obtain ⟨P1, Ps, hlen, L1, hL, hP1m, hlink1, hlink⟩ := Bundle.chain0 (args := args) hpl Y.init0 ["java/lang/RuntimeException", "java/lang/Exception"] q.1 hf hnames (fun x hx => h x (by simp [Bundle.ownAtoms0, hx]))
  have hfound : s.vm.findClass q.1 = some P1.m.cls := findClass_of_methodNamed hP1m
  have hcl : (gD Γ).1 ci = P1.m.cls := Option.some.inj (hKn.2.1.symm.trans hfound)
  rw [hcl] at e1 hkX
  obtain ⟨c1, kX', hc1, hk, hord, -, -, hn6⟩ := Cond.instantiable_spec (Cx.ts _ hins)
  cases Option.some.inj (hc1.symm.trans hfound)
  cases Option.some.inj (hkX.symm.trans hk)
  have a' : ∀ x, x ∈ Bundle.ownAtoms0 (jy J).cls ic q.1 ["java/lang/RuntimeException", "java/lang/Exception"] → x.holds args s none s [] = true := fun x hx => h x hx
  have hsel0 : selectMethod e.platform s.vm P1.m.cls Tc.fill0 = .method Tc.fill0 := by
    obtain ⟨c2, r2, m2, q1, q2, q3, q4, -⟩ := Cond.selects_spec (a' (.selects q.1 Bundle.tFill0 Bundle.tFill0) (by simp [Bundle.ownAtoms0]))
    cases Option.some.inj (q1.symm.trans hfound)
    cases Option.some.inj (q2.symm.trans (State.methodFound?_of_named Y.fill0 (by decide)))
    cases Option.some.inj (q3.symm.trans Y.fill0)
    rw [Launch.admits_selectMethod X.admits]; exact q4
  have hselF : selectMethod e.platform s.vm P1.m.cls Tc.fill = .method Tc.fill := by
    obtain ⟨c2, r2, m2, q1, q2, q3, q4, -⟩ := Cond.selects_spec (a' (.selects q.1 Bundle.tFill Bundle.tFill) (by simp [Bundle.ownAtoms0]))
    cases Option.some.inj (q1.symm.trans hfound)
    cases Option.some.inj (q2.symm.trans (State.methodFound?_of_named Y.fill (by decide)))
    cases Option.some.inj (q3.symm.trans Y.fill)
    rw [Launch.admits_selectMethod X.admits]; exact q4
  obtain ⟨cellS0, hcS0, hiss⟩ := Y.statics
  obtain ⟨u0, hu0⟩ := Cond.staticRefV Y.unassigned L.unassignedStatic L.statics hcS0 hiss (a' (.isRef (.static Bundle.tN "UNASSIGNED_STACK" Bundle.steD)) (by simp [Bundle.ownAtoms0]))
  obtain ⟨sen, hsen⟩ := Cond.staticRefV Y.sentinel L.sentinelStatic L.statics hcS0 hiss (a' (.isRef (.static Bundle.tN "SUPPRESSED_SENTINEL" Bundle.listD)) (by simp [Bundle.ownAtoms0]))
  obtain ⟨ci198, i198, fB, hk198, hg198, ha198, hsB, -, hnB, htB, hffB⟩ := Cond.ownField (t := .object "java/lang/Object") Y.found L.cls (by decide +kernel) (a' (.fieldLink Bundle.tN 198 Bundle.tN "backtrace" "Ljava/lang/Object;") (by simp [Bundle.ownAtoms0])) (a' (.lays Bundle.tN Bundle.tN "backtrace" "Ljava/lang/Object;") (by simp [Bundle.ownAtoms0])) e.platform hpl
  -- the statics' cell lies in the first heap
  have haS : Tc.aS < (gH Γ).size := by
    obtain ⟨c, i, a, k, f, cell, v, hc, hi, hst, ha, hcell, -⟩ := Cx.kz.2.2.1.1
    have hpp := hi.symm.trans Y.unassigned
    simp only [Option.some.injEq, Prod.mk.injEq] at hpp
    have hka : Tc.kT.statics = some a := by rw [← hpp.2.1]; exact ha
    have : a = Tc.aS := Option.some.inj (hka.symm.trans L.statics)
    rw [← this]
    exact (Array.getElem?_eq_some_iff.mp hcell).1
  have hbase : (gH Γ).size ≤ csz σ := hI.1.2.1
  have hcellS : T.heap[Tc.aS]? = some cellS0 := by
    rw [o1 _ (Nat.lt_of_lt_of_le haS hbase), hI.1.2.2.1 _ haS, ← Cx.h0 _ haS]
    exact hcS0
  have hknownS : cellS0.vm ≠ .unknown := by
    intro hu
    rw [show cellS0.vm = .unknown from hu] at hiss
    cases hiss
  have hneS : Tc.aS ≠ csz σ := Nat.ne_of_lt (Nat.lt_of_lt_of_le haS hbase)
  obtain ⟨tyC, dC, hdC, hdnC⟩ := Cond.laysAt hfound hk Y.cause (a' (.lays q.1 Bundle.tN "cause" "Ljava/lang/Throwable;") (by simp [Bundle.ownAtoms0]))
  obtain ⟨tyS, dS, hdS, hdnS⟩ := Cond.laysAt hfound hk Y.stack (a' (.lays q.1 Bundle.tN "stackTrace" Bundle.steD) (by simp [Bundle.ownAtoms0]))
  obtain ⟨tyP, dP, hdP, hdnP⟩ := Cond.laysAt hfound hk Y.supp (a' (.lays q.1 Bundle.tN "suppressedExceptions" Bundle.listD) (by simp [Bundle.ownAtoms0]))
  obtain ⟨tyB, dB, hdB, hdnB⟩ := Cond.laysAt hfound hk hffB (a' (.lays q.1 Bundle.tN "backtrace" "Ljava/lang/Object;") (by simp [Bundle.ownAtoms0]))
  have bC := Cond.laysApart hdB hdC hdnB hdnC (by rw [hnB, Y.causeName]; decide)
  have bS := Cond.laysApart hdB hdS hdnB hdnS (by rw [hnB, Y.stackName]; decide)
  have bP := Cond.laysApart hdB hdP hdnB hdnP (by rw [hnB, Y.suppName]; decide)
  have hskip : SkipFacts Tc e.platform s (fun u => u) u0 ((preparedCellV Tc.toThrowableT (blank P1.m.cls kX) (csz σ) u0 sen).withEntry T.cur) :=
    ⟨{ ci198 := ci198, i198 := i198, fBack := fB }, ⟨hk198, hg198, ha198, hsB⟩, by
      have := fresh_default (c := P1.m.cls) tyB
      rw [htB] at this
      simpa [blank, preparedCellV, Cell.setSlot, Cell.withEntry, Array.getElem?_setIfInBounds, bC, bS, bP, bC.symm, bS.symm, bP.symm, defaultValue] using this, fun _ _ => rfl⟩
  have hg : (F0 m (pc + 4) ls (.ref (csz σ) :: .ref (csz σ) :: rest)).method = m := rfl
  obtain ⟨tm, methC, cdC, kC, vm₁, hnC, -, -, -, -, -, -, -, hW₁, st1⟩ := Steps.initCold (tb := p.tables) (e := e) (below := below) (s := s) (U := T) X.here Cx.1 X.warmed hpl Cx.own (t := Bundle.init0 q.1) rfl rfl (Bundle.fit_spec hf).2
    (a' (.methodLink (jy J).cls ic (Bundle.init0 q.1)) (by simp [Bundle.ownAtoms0])) (h (.instanceMethod (Bundle.init0 q.1)) (by simp [Bundle.ownAtoms0, Bundle.chain0Atoms, Bundle.passAtoms])) (bytes := Bundle.five) (maxL := 1) (h (.code (Bundle.init0 q.1) Bundle.five 1 none) (by simp [Bundle.ownAtoms0, Bundle.chain0Atoms, Bundle.passAtoms]))
    (f := F0 m (pc + 4) ls (.ref (csz σ) :: .ref (csz σ) :: rest)) hg (a := csz σ) (rest := .ref (csz σ) :: rest) rfl (by rw [Cx.2.1]; exact h3)
  cases Option.some.inj (hnC.symm.trans hP1m)
  have X₁ := X.noted hW₁
  obtain ⟨vm₂, X₂, st2⟩ := X₁.ctorPlainOffV Cx.1 (g := F0 m (pc + 4) ls (.ref (csz σ) :: rest)) rfl (hl.1.trans Cx.ml.symm) Tc L Z LZ (P1 :: Ps)
    (fun P hP => by rcases List.mem_cons.mp hP with rfl | hP; exact L1; exact hL P hP) ⟨hlink1, hlink⟩ (u0 := u0) (sen := sen) (self := csz σ) (cell := blank P1.m.cls kX) (cellS := cellS0)
    e1 (fun _ => by simp [blank]) (by simp [blank]) rfl rfl hsel0 hselF hcellS hneS hknownS hu0 hsen
    (Takes.of_laid hk hord tyC (by rw [Y.causeType]; rfl)) (Takes.of_laid hk hord tyS (by rw [Y.stackType]; exact fits_refV_array _ u0)) (Takes.of_laid hk hord tyP (by rw [Y.suppType]; exact fits_refV_object _ sen)) Y.objLocals hskip htr [] (by rw [Cx.2.1]; exact h3)
    (by show (P1 :: Ps).length + 2 < d; rw [List.length_cons, hlen]; show 2 + 1 + 2 < d; omega) (by
      have hw2 := lv_room (m := m) (pc := pc + 4) (ls := ls) (rest := .ref (csz σ) :: rest) hw
      show 2 * (F0 m (pc + 4) ls (.ref (csz σ) :: rest)).monitorRoom + (1 + (rest.map fun v => v.category).sum) + (13 * (P1 :: Ps).length + 41) ≤ 40 * d
      rw [List.length_cons, hlen]
      show _ + (1 + _) + (13 * (2 + 1) + 41) ≤ 40 * d
      omega)
  generalize hcv : (preparedCellV Tc.toThrowableT (blank P1.m.cls kX) (csz σ) u0 sen).setSlot Tc.fStack.slot u0.v = cv at X₂ st2
  have hcc : cv.cls = P1.m.cls ∧ cv.vm = .none := by rw [← hcv]; exact ⟨rfl, rfl⟩
  have X₃ := Stand.forget (locs := locs) X₂ (fun y hy => by
    have hb : y.base = csz σ := by
      simp only [List.mem_cons, List.not_mem_nil, or_false] at hy
      rcases hy with rfl | rfl | rfl | rfl <;> rfl
    rw [hb]; exact hss)
  have hlt : csz σ < ((T.setVm vm₁).setVm vm₂).heap.size := by show csz σ < T.heap.size; omega
  have hU := heapAt_setCell_self (s := (T.setVm vm₁).setVm vm₂) cv hlt
  have hO : ∀ r, r ≠ csz σ → (((T.setVm vm₁).setVm vm₂).setCell (csz σ) cv).heap[r]? = T.heap[r]? := fun r hr => heapAt_setCell_ne _ (Ne.symm hr)
  have hZ : (((T.setVm vm₁).setVm vm₂).setCell (csz σ) cv).heap.size = csz σ + 1 := by rw [size_setCell]; exact z1
  obtain ⟨t, a1, b1⟩ := kk A p e s m args below meth c (((T.setVm vm₁).setVm vm₂).setCell (csz σ) cv).heap locs (cells + 1) (slots + 6) mc ms ls Cx hl
    (hI.new (σ' := newO σ (ci + 1)) hsz hZ (fun r hr => (hO r (by omega)).trans (o1 r hr)) (by show (if csz σ = csz σ then ci + 1 else _) ≠ 0; rw [if_pos rfl]; omega) (fun b hb' => by
      refine ⟨?_, rfl, fun g => ?_, fun g => ?_, rfl, rfl⟩
      · show (if b = csz σ then ci + 1 else _) = _; rw [if_neg hb']
      · show (if b = csz σ then _ else _) = _; rw [if_neg hb']
      · show (if b = csz σ then _ else _) = _; rw [if_neg hb']) rfl (by
      have x1 : cty (newO σ (ci + 1)) (csz σ) = ci + 1 := by show (if csz σ = csz σ then ci + 1 else _) = _; rw [if_pos rfl]
      have hlt := cls_lt hC.1
      refine ⟨fun ci' q' h hc => ?_, fun h => by omega, fun h => by omega, fun h => by omega, fun h => by omega⟩
      have e : ci' = ci := by omega
      subst e
      cases hC.1.symm.trans hc
      exact ⟨cv, hU, by rw [hcc.1, hcl], hcc.2, fun k hk => by rw [hN] at hk; exact absurd hk (Nat.not_lt_zero _)⟩)) (by omega) (by omega) _ rfl X₃
  exact ⟨t, st1 _ (fun acts => by rw [doInvoke_state]; exact st2 _ a1), b1⟩
end XC

theorem XO_X1_108 : ExcOK RX1 108 RJ21 := fun s args hts hkw s1 s2 s3 s4 => List.forall_mem_cons.mpr ⟨hts _ q74, List.forall_mem_cons.mpr ⟨hts _ q157, List.forall_mem_cons.mpr ⟨hts _ q166, List.forall_mem_cons.mpr ⟨hts _ q171, List.forall_mem_cons.mpr ⟨hts _ q174, List.forall_mem_cons.mpr ⟨hts _ q176, List.forall_mem_cons.mpr ⟨hts _ q158, List.forall_mem_cons.mpr ⟨hts _ q159, List.forall_mem_cons.mpr ⟨hts _ q111, List.forall_mem_cons.mpr ⟨hts _ q112, List.forall_mem_cons.mpr ⟨hts _ q160, List.forall_mem_cons.mpr ⟨hts _ q165, List.forall_mem_cons.mpr ⟨hts _ q172, List.forall_mem_cons.mpr ⟨hts _ q412, List.forall_mem_cons.mpr ⟨hts _ q147, List.forall_mem_cons.mpr ⟨hts _ q413, List.forall_mem_cons.mpr ⟨hts _ q149, List.forall_mem_cons.mpr ⟨hts _ q414, List.forall_mem_cons.mpr ⟨hts _ q151, List.forall_mem_cons.mpr ⟨hts _ q161, List.forall_mem_cons.mpr ⟨s1, List.forall_mem_cons.mpr ⟨hts _ q163, List.forall_mem_cons.mpr ⟨s2, List.forall_mem_cons.mpr ⟨hts _ q153, List.forall_mem_cons.mpr ⟨hts _ q1354, List.forall_mem_cons.mpr ⟨hts _ q1355, List.forall_mem_cons.mpr ⟨hts _ q1356, List.forall_mem_cons.mpr ⟨hts _ q978, List.forall_mem_cons.mpr ⟨va_Nw.use rfl (hkw _ q138 rfl), List.forall_mem_cons.mpr ⟨hts _ q978, List.forall_mem_cons.mpr ⟨hts _ q979, List.forall_mem_cons.mpr ⟨hts _ q980, List.forall_mem_cons.mpr ⟨hts _ q981, List.forall_mem_cons.mpr ⟨va_Nw.use rfl (hkw _ q140 rfl), List.forall_mem_cons.mpr ⟨hts _ q981, List.forall_mem_cons.mpr ⟨hts _ q982, List.forall_mem_cons.mpr ⟨hts _ q983, List.forall_mem_cons.mpr ⟨hts _ q158, List.forall_mem_cons.mpr ⟨va_Nw.use rfl (hkw _ q142 rfl), List.forall_mem_cons.mpr ⟨hts _ q1353, List.forall_mem_cons.mpr ⟨hts _ q1345, List.forall_mem_cons.mpr ⟨va_Nw.use rfl (hkw _ q1346 rfl), List.forall_mem_cons.mpr ⟨hts _ q1347, List.forall_mem_cons.mpr ⟨hts _ q170, List.forall_mem_cons.mpr ⟨hts _ q1348, List.forall_mem_cons.mpr ⟨hts _ q1349, List.forall_mem_cons.mpr ⟨hts _ q1350, List.forall_mem_cons.mpr ⟨hts _ q1351, List.forall_mem_cons.mpr ⟨s3, List.forall_mem_cons.mpr ⟨s4, List.forall_mem_cons.mpr ⟨hts _ q156, List.forall_mem_cons.mpr ⟨hts _ q155, List.forall_mem_cons.mpr ⟨hts _ q1352, fun _ h => absurd h List.not_mem_nil⟩⟩⟩⟩⟩⟩⟩⟩⟩⟩⟩⟩⟩⟩⟩⟩⟩⟩⟩⟩⟩⟩⟩⟩⟩⟩⟩⟩⟩⟩⟩⟩⟩⟩⟩⟩⟩⟩⟩⟩⟩⟩⟩⟩⟩⟩⟩⟩⟩⟩⟩⟩⟩
theorem XO_X1_82 : ExcOK RX1 82 RJ20 := fun s args hts hkw s1 s2 s3 s4 => List.forall_mem_cons.mpr ⟨hts _ q74, List.forall_mem_cons.mpr ⟨hts _ q157, List.forall_mem_cons.mpr ⟨hts _ q166, List.forall_mem_cons.mpr ⟨hts _ q171, List.forall_mem_cons.mpr ⟨hts _ q174, List.forall_mem_cons.mpr ⟨hts _ q176, List.forall_mem_cons.mpr ⟨hts _ q158, List.forall_mem_cons.mpr ⟨hts _ q159, List.forall_mem_cons.mpr ⟨hts _ q111, List.forall_mem_cons.mpr ⟨hts _ q112, List.forall_mem_cons.mpr ⟨hts _ q160, List.forall_mem_cons.mpr ⟨hts _ q165, List.forall_mem_cons.mpr ⟨hts _ q172, List.forall_mem_cons.mpr ⟨hts _ q412, List.forall_mem_cons.mpr ⟨hts _ q147, List.forall_mem_cons.mpr ⟨hts _ q413, List.forall_mem_cons.mpr ⟨hts _ q149, List.forall_mem_cons.mpr ⟨hts _ q414, List.forall_mem_cons.mpr ⟨hts _ q151, List.forall_mem_cons.mpr ⟨hts _ q161, List.forall_mem_cons.mpr ⟨s1, List.forall_mem_cons.mpr ⟨hts _ q163, List.forall_mem_cons.mpr ⟨s2, List.forall_mem_cons.mpr ⟨hts _ q153, List.forall_mem_cons.mpr ⟨hts _ q1147, List.forall_mem_cons.mpr ⟨hts _ q1148, List.forall_mem_cons.mpr ⟨hts _ q1149, List.forall_mem_cons.mpr ⟨hts _ q978, List.forall_mem_cons.mpr ⟨va_Nw.use rfl (hkw _ q138 rfl), List.forall_mem_cons.mpr ⟨hts _ q978, List.forall_mem_cons.mpr ⟨hts _ q979, List.forall_mem_cons.mpr ⟨hts _ q980, List.forall_mem_cons.mpr ⟨hts _ q981, List.forall_mem_cons.mpr ⟨va_Nw.use rfl (hkw _ q140 rfl), List.forall_mem_cons.mpr ⟨hts _ q981, List.forall_mem_cons.mpr ⟨hts _ q982, List.forall_mem_cons.mpr ⟨hts _ q983, List.forall_mem_cons.mpr ⟨hts _ q158, List.forall_mem_cons.mpr ⟨va_Nw.use rfl (hkw _ q142 rfl), List.forall_mem_cons.mpr ⟨hts _ q1146, List.forall_mem_cons.mpr ⟨hts _ q1138, List.forall_mem_cons.mpr ⟨va_Nw.use rfl (hkw _ q1139 rfl), List.forall_mem_cons.mpr ⟨hts _ q1140, List.forall_mem_cons.mpr ⟨hts _ q169, List.forall_mem_cons.mpr ⟨hts _ q1141, List.forall_mem_cons.mpr ⟨hts _ q1142, List.forall_mem_cons.mpr ⟨hts _ q1143, List.forall_mem_cons.mpr ⟨hts _ q1144, List.forall_mem_cons.mpr ⟨s3, List.forall_mem_cons.mpr ⟨s4, List.forall_mem_cons.mpr ⟨hts _ q156, List.forall_mem_cons.mpr ⟨hts _ q155, List.forall_mem_cons.mpr ⟨hts _ q1145, fun _ h => absurd h List.not_mem_nil⟩⟩⟩⟩⟩⟩⟩⟩⟩⟩⟩⟩⟩⟩⟩⟩⟩⟩⟩⟩⟩⟩⟩⟩⟩⟩⟩⟩⟩⟩⟩⟩⟩⟩⟩⟩⟩⟩⟩⟩⟩⟩⟩⟩⟩⟩⟩⟩⟩⟩⟩⟩⟩
theorem XO_X1_85 : ExcOK RX1 85 RJ6 := fun s args hts hkw s1 s2 s3 s4 => List.forall_mem_cons.mpr ⟨hts _ q74, List.forall_mem_cons.mpr ⟨hts _ q157, List.forall_mem_cons.mpr ⟨hts _ q166, List.forall_mem_cons.mpr ⟨hts _ q171, List.forall_mem_cons.mpr ⟨hts _ q174, List.forall_mem_cons.mpr ⟨hts _ q176, List.forall_mem_cons.mpr ⟨hts _ q158, List.forall_mem_cons.mpr ⟨hts _ q159, List.forall_mem_cons.mpr ⟨hts _ q111, List.forall_mem_cons.mpr ⟨hts _ q112, List.forall_mem_cons.mpr ⟨hts _ q160, List.forall_mem_cons.mpr ⟨hts _ q165, List.forall_mem_cons.mpr ⟨hts _ q172, List.forall_mem_cons.mpr ⟨hts _ q412, List.forall_mem_cons.mpr ⟨hts _ q147, List.forall_mem_cons.mpr ⟨hts _ q413, List.forall_mem_cons.mpr ⟨hts _ q149, List.forall_mem_cons.mpr ⟨hts _ q414, List.forall_mem_cons.mpr ⟨hts _ q151, List.forall_mem_cons.mpr ⟨hts _ q161, List.forall_mem_cons.mpr ⟨s1, List.forall_mem_cons.mpr ⟨hts _ q163, List.forall_mem_cons.mpr ⟨s2, List.forall_mem_cons.mpr ⟨hts _ q153, List.forall_mem_cons.mpr ⟨hts _ q975, List.forall_mem_cons.mpr ⟨hts _ q976, List.forall_mem_cons.mpr ⟨hts _ q977, List.forall_mem_cons.mpr ⟨hts _ q978, List.forall_mem_cons.mpr ⟨va_Nw.use rfl (hkw _ q138 rfl), List.forall_mem_cons.mpr ⟨hts _ q978, List.forall_mem_cons.mpr ⟨hts _ q979, List.forall_mem_cons.mpr ⟨hts _ q980, List.forall_mem_cons.mpr ⟨hts _ q981, List.forall_mem_cons.mpr ⟨va_Nw.use rfl (hkw _ q140 rfl), List.forall_mem_cons.mpr ⟨hts _ q981, List.forall_mem_cons.mpr ⟨hts _ q982, List.forall_mem_cons.mpr ⟨hts _ q983, List.forall_mem_cons.mpr ⟨hts _ q158, List.forall_mem_cons.mpr ⟨va_Nw.use rfl (hkw _ q142 rfl), List.forall_mem_cons.mpr ⟨hts _ q1153, List.forall_mem_cons.mpr ⟨hts _ q136, List.forall_mem_cons.mpr ⟨va_Nw.use rfl (hkw _ q137 rfl), List.forall_mem_cons.mpr ⟨hts _ q144, List.forall_mem_cons.mpr ⟨hts _ q145, List.forall_mem_cons.mpr ⟨hts _ q146, List.forall_mem_cons.mpr ⟨hts _ q148, List.forall_mem_cons.mpr ⟨hts _ q150, List.forall_mem_cons.mpr ⟨hts _ q152, List.forall_mem_cons.mpr ⟨s3, List.forall_mem_cons.mpr ⟨s4, List.forall_mem_cons.mpr ⟨hts _ q156, List.forall_mem_cons.mpr ⟨hts _ q155, List.forall_mem_cons.mpr ⟨hts _ q154, fun _ h => absurd h List.not_mem_nil⟩⟩⟩⟩⟩⟩⟩⟩⟩⟩⟩⟩⟩⟩⟩⟩⟩⟩⟩⟩⟩⟩⟩⟩⟩⟩⟩⟩⟩⟩⟩⟩⟩⟩⟩⟩⟩⟩⟩⟩⟩⟩⟩⟩⟩⟩⟩⟩⟩⟩⟩⟩⟩
theorem XO_X2_30 : ExcOK RX2 30 RJ6 := fun s args hts hkw s1 s2 s3 s4 => List.forall_mem_cons.mpr ⟨hts _ q74, List.forall_mem_cons.mpr ⟨hts _ q157, List.forall_mem_cons.mpr ⟨hts _ q166, List.forall_mem_cons.mpr ⟨hts _ q171, List.forall_mem_cons.mpr ⟨hts _ q174, List.forall_mem_cons.mpr ⟨hts _ q176, List.forall_mem_cons.mpr ⟨hts _ q158, List.forall_mem_cons.mpr ⟨hts _ q159, List.forall_mem_cons.mpr ⟨hts _ q111, List.forall_mem_cons.mpr ⟨hts _ q112, List.forall_mem_cons.mpr ⟨hts _ q160, List.forall_mem_cons.mpr ⟨hts _ q165, List.forall_mem_cons.mpr ⟨hts _ q172, List.forall_mem_cons.mpr ⟨hts _ q412, List.forall_mem_cons.mpr ⟨hts _ q147, List.forall_mem_cons.mpr ⟨hts _ q413, List.forall_mem_cons.mpr ⟨hts _ q149, List.forall_mem_cons.mpr ⟨hts _ q414, List.forall_mem_cons.mpr ⟨hts _ q151, List.forall_mem_cons.mpr ⟨hts _ q161, List.forall_mem_cons.mpr ⟨s1, List.forall_mem_cons.mpr ⟨hts _ q163, List.forall_mem_cons.mpr ⟨s2, List.forall_mem_cons.mpr ⟨hts _ q153, List.forall_mem_cons.mpr ⟨hts _ q975, List.forall_mem_cons.mpr ⟨hts _ q976, List.forall_mem_cons.mpr ⟨hts _ q977, List.forall_mem_cons.mpr ⟨hts _ q978, List.forall_mem_cons.mpr ⟨va_Nw.use rfl (hkw _ q138 rfl), List.forall_mem_cons.mpr ⟨hts _ q978, List.forall_mem_cons.mpr ⟨hts _ q979, List.forall_mem_cons.mpr ⟨hts _ q980, List.forall_mem_cons.mpr ⟨hts _ q981, List.forall_mem_cons.mpr ⟨va_Nw.use rfl (hkw _ q140 rfl), List.forall_mem_cons.mpr ⟨hts _ q981, List.forall_mem_cons.mpr ⟨hts _ q982, List.forall_mem_cons.mpr ⟨hts _ q983, List.forall_mem_cons.mpr ⟨hts _ q158, List.forall_mem_cons.mpr ⟨va_Nw.use rfl (hkw _ q142 rfl), List.forall_mem_cons.mpr ⟨hts _ q974, List.forall_mem_cons.mpr ⟨hts _ q136, List.forall_mem_cons.mpr ⟨va_Nw.use rfl (hkw _ q137 rfl), List.forall_mem_cons.mpr ⟨hts _ q144, List.forall_mem_cons.mpr ⟨hts _ q145, List.forall_mem_cons.mpr ⟨hts _ q146, List.forall_mem_cons.mpr ⟨hts _ q148, List.forall_mem_cons.mpr ⟨hts _ q150, List.forall_mem_cons.mpr ⟨hts _ q152, List.forall_mem_cons.mpr ⟨s3, List.forall_mem_cons.mpr ⟨s4, List.forall_mem_cons.mpr ⟨hts _ q156, List.forall_mem_cons.mpr ⟨hts _ q155, List.forall_mem_cons.mpr ⟨hts _ q154, fun _ h => absurd h List.not_mem_nil⟩⟩⟩⟩⟩⟩⟩⟩⟩⟩⟩⟩⟩⟩⟩⟩⟩⟩⟩⟩⟩⟩⟩⟩⟩⟩⟩⟩⟩⟩⟩⟩⟩⟩⟩⟩⟩⟩⟩⟩⟩⟩⟩⟩⟩⟩⟩⟩⟩⟩⟩⟩⟩
