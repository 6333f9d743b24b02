set_option maxRecDepth 100000
theorem Stand.mono_ {p : Program} {l : Launch} {e : Env} {R : Room} {s : State} {m : MethodId} {args : Array Value} {below : List Frame} {meth : Method} {c : Code} {T : State} {locs : List Loc} {cells slots k n : Nat} (X : Stand p l e R s m args below meth c T locs cells slots) (h1 : cells ≤ k) (h2 : slots ≤ n) : Stand p l e R s m args below meth c T locs k n := stand_widen X h1 h2
section TH
variable {Γ : GT} {J J' : JT} {d d' pc : Nat} {lv : List (Nat × Value)} {st rest av As : List Value} {σ σ1 : CS} {bc bs bc' bs' : Nat} {out : Outcome × CS} {v : Option Value} {b idx n ci x : Nat} {C : String} {r : vw_C}
variable {A : Nat → Prop} {p : Program} {e : Env} {s : State} {m mk : MethodId} {args : Array Value} {below : List Frame} {meth : Method} {c : Code} {H : Heap} {locs : List Loc} {cells slots mc ms : Nat} {ls : Array Slot} {U : State} {g : JFrame} {ig : Instr}
/-- a callee that throws: the state behind it -/
theorem CM.throws (h : CM Γ J' d' av σ bc' bs' (.threw x, σ1)) (X : Stand p (gl Γ) e (Rm d mc ms) s m args below meth c U locs cells slots) (hts : ∀ w ∈ lw_all, w.before args s = true) (hcode : Cond.code (jy J') (jc J') (jn J') (jr J') ∈ lw_all) (hini : Cond.initialized (jy J').cls ∈ lw_all) (hml : jn J' ≤ 21) (hd : d' + 1 ≤ d)
    (hcells : cells + bc' ≤ mc) (hslots : slots + bs' ≤ ms) (hg : g.method = m) (hsize : g.locals.size = c.maxLocals) (hdg : decode c.code g.pc = .ok (ig, 3)) (hW : 2 * g.monitorRoom + (g.stack.map fun v => v.category).sum ≤ 8) (hn : U.methodNamed? (jy J') = some mk) (hP : Pcx Γ σ av av.toArray U) :
    ∃ (U' : State) (L : List Loc), Stand p (gl Γ) e (Rm d mc ms) s m args below meth c U' (locs ++ L) (cells + bc') (slots + bs') ∧ (∀ q ∈ L, Adom σ q.base) ∧ Rep Γ σ1 U'.heap ∧ va_F (Adom σ) U U' ∧ (∀ a, cty σ1 a ≠ 0 → Adom σ a) ∧
      Steps p.tables e below (doInvoke e (U.setTop g) [] mk av.toArray).1 ((U'.setTop g).pushFrame (.throwing x)) := by
  have hwords : ∀ w ∈ ws_ (jy J') (jc J') (jn J') (jr J'), w.before av.toArray U = true := fun w hw => pay_in hts (lw_meth hcode) w hw _ _ X.warmed
  have h2 : (Cond.code (jy J') (jc J') (jn J') (jr J')).before av.toArray U = true := hwords _ List.mem_cons_self
  have h3 : (Cond.initialized (jy J').cls).before av.toArray U = true := hwords _ (List.mem_cons_of_mem _ hini)
  obtain ⟨methY, cY, hmY, hcY, -, hlY, -, -, -, -⟩ := Cond.code_spec hn h2
  obtain ⟨kY, hkY, -⟩ := className_of_methodNamed hn
  have hinitY : kY.init = .initialized := Cond.initialized_spec (findClass_of_methodNamed hn) hkY h3
  have hA : At U g.method c below := by rw [hg]; exact X.here
  have happ : (headSpec (ws_ (jy J') (jc J') (jn J') (jr J')) (Rm d' bc' bs')).appliesLoose (jy J') e.platform (U.calling g mk av.toArray) = true :=
    Spec.appliesLoose_calling (g := g) hA hdg hn hkY hinitY
      (X.room_calling (g := g) (R' := Rm d' bc' bs') hsize hmY hcY (by show d' + 1 ≤ d; exact hd) (by rw [hlY]; show _ ≤ 40 * d; have : (Rm d' bc' bs').locals = 40 * d' := rfl; omega) hcells hslots) (atoms_intro hwords)
  obtain ⟨mid, hmid⟩ := hA.above
  have hfr : (U.setTop g).frames = (.java g :: mid) ++ below := by rw [State.frames_setTop' g hA.top, hmid]; rfl
  obtain ⟨o, s₂, hsteps, -, hend, hq⟩ := Steps.callFree h p X.admits X.cas X.clock (acts := []) hfr happ (Pcx.blind _ _ _ _ hP) trivial
  have hq' : Qcx Γ (Adom σ) (.threw x, σ1) av.toArray (U.calling g mk av.toArray) o s₂ ∧ ∃ L, FrameX (U.calling g mk av.toArray) s₂ L bc' bs' ∧ ∀ q ∈ L, Adom σ q.base := hq
  rw [State.frames_setTop' g hA.top] at hend
  obtain ⟨⟨ho, hRep, hF, hdom⟩, L, ⟨hW₂, e2, q2, q3, q4, q5, q6⟩, hL⟩ := hq'
  have ho : o = .threw x := ho
  subst ho
  have e3 : s₂ = ({ (U.calling g mk av.toArray).setFrames s₂.frames with heap := s₂.heap, slotsUsed := s₂.slotsUsed } : State).setVm s₂.vm := by
    have : s₂ = ({ s₂ with vm := (U.calling g mk av.toArray).vm } : State).setVm s₂.vm := rfl
    rw [e2] at this
    exact this
  have hf₂ : s₂.frames = .throwing x :: .java g :: U.frames.tail := hend
  have hW' : U.WarmedH s₂.vm := hW₂
  obtain ⟨g₀, hg0⟩ := Option.isSome_iff_exists.mp hA.top
  obtain ⟨r0, hr⟩ := State.topJava?_eq_some.mp hg0
  have hs₂ : s₂ = ((({ U with heap := s₂.heap, slotsUsed := s₂.slotsUsed } : State).setVm s₂.vm).setTop g).pushFrame (.throwing x) := by
    have hr' : (({ U with heap := s₂.heap, slotsUsed := s₂.slotsUsed } : State).setVm s₂.vm).frames = .java g₀ :: r0 := hr
    refine e3.trans ?_
    rw [hf₂, State.calling_eq hA.top, State.setFrames_setFrames, State.pushFrame, State.frames_setTop _ hr', State.setTop_of_frames _ hr', State.setFrames_setFrames, hr]
    rfl
  have hsame : U.sameButNew ({ U with heap := s₂.heap, slotsUsed := s₂.slotsUsed } : State) L bc' bs' := by
    refine ⟨?_, q2, q3, q4, q5, q6⟩
    obtain ⟨t, ht, -⟩ := State.frames_cons hr
    show ({ U with heap := s₂.heap, slotsUsed := s₂.slotsUsed } : State) = { U.setFrames U.frames with heap := s₂.heap, slotsUsed := s₂.slotsUsed }
    rw [State.setFrames_self ht]
  subst hg
  refine ⟨({ U with heap := s₂.heap, slotsUsed := s₂.slotsUsed } : State).setVm s₂.vm, L,
    ⟨X.admits, X.cas, X.clock, X.frames, X.room, X.hears, X.method, X.code, (X.here.setHeapUsed s₂.heap s₂.slotsUsed).setVm hW'.alike, X.tail, State.WarmedH.trans X.warmed hW', X.limits, X.bytes, X.same.trans (hsame.setVm s.vm)⟩, hL, hRep, hF, hdom, ?_⟩
  rw [← hs₂]
  exact hsteps
/-- an end by throwing -/
theorem throw_end {T : State} (X : Stand p (gl Γ) e (Rm d mc ms) s m args below meth c T locs mc ms) (Cx : Ctx Γ J p s m args meth c) (hI : In Γ A σ s T.heap locs) (hg : g.method = m) (hlo : g.locked = none) (hen : g.entered = []) :
    ∃ t, Steps p.tables e below ((T.setTop g).pushFrame (.throwing x)) t ∧ MQX below (Qcx Γ A (.threw x, σ)) args s mc ms A t := by
  obtain ⟨h1, h2, h3, h4, h5⟩ := X.leaveThrown x (g := g) hg hlo hen (fun y hy => (Cx.ex y hy).elim) Cx.lk
  exact ⟨_, h1, .threw x, h2, h3, hI.q rfl, locs, ⟨h4, h5⟩, hI.2.1.2.2⟩
/-- behind a call that threw, in a method without handlers -/
theorem In.call {U' : State} {L : List Loc} (hI : In Γ A σ s U.heap locs) (hRep : Rep Γ σ1 U'.heap) (hF : va_F (Adom σ) U U') (hdom : ∀ a, cty σ1 a ≠ 0 → Adom σ a) (hL : ∀ q ∈ L, Adom σ q.base) : In Γ A σ1 s U'.heap (locs ++ L) := by
  obtain ⟨hR, hS, hd, hA⟩ := hI
  have hsz : s.heap.size ≤ csz σ := by rw [← hR.1]; exact hS.1
  have hAd : ∀ q, Adom σ q → A q := fun q h => h.elim (hd q) (fun h => hA q (Nat.le_trans hsz h))
  exact ⟨hRep, ⟨Nat.le_trans hS.1 hF.1, fun q x1 x2 => by
        rw [hF.2 q (Nat.lt_of_lt_of_le x1 hS.1) (fun z => x2 (hAd q z))]
        exact hS.2.1 q x1 x2, fun q hq => by
        rcases List.mem_append.mp hq with h | h
        · exact hS.2.2 q h
        · exact hAd _ (hL q h)⟩, fun a h => hAd a (hdom a h), hA⟩
/-- how a call through an object enters its callee -/
theorem enterV (X : Stand p (gl Γ) e (Rm d mc ms) s m args below meth c U locs cells slots) (Cx : Ctx Γ J p s m args meth c) (hI : In Γ A σ s U.heap locs) (hK : CallV (jy J).cls idx J' r.1 n) (hb : cty σ b = ci + 1) (hc : cls_[ci]? = some r) (hn : As.length = n) (hg : g.method = m) (hst : g.stack = As.reverse ++ .ref b :: rest) (hdg : decode c.code g.pc = .ok (.invokevirtual idx, 3)) :
    ∃ (mk : MethodId) (vm₁ : Vm), Stand p (gl Γ) e (Rm d mc ms) s m args below meth c (U.setVm vm₁) locs cells slots ∧ (U.setVm vm₁).methodNamed? (jy J') = some mk ∧ ∀ target, Steps p.tables e below (doInvoke e ((U.setVm vm₁).setTop { g with stack := rest }) [] mk (Value.ref b :: As).toArray).1 target → Steps p.tables e below (U.setTop g) target := by
  obtain ⟨k1, k2, k3, k4, k5, ⟨-, hy1, hy2, hlen⟩, k7⟩ := hK
  obtain ⟨cellB, g1, g2, g3, -⟩ := (hI.1.2.2.2.1 b).1 ci r hb hc
  have hobj : cellB.vm.isStatics = false := by rw [g3]; rfl
  have hcls : s.vm.findClass r.1 = some cellB.cls := by rw [g2]; exact (Cx.kn.1 ci r hc).2.1
  obtain ⟨mk, methM, hnamed, hmethM, hstM, habM⟩ := Cond.instanceMethod_spec (Cx.ts _ k2)
  obtain ⟨methM', cM, hmethM', -, -, -, -, -, -, hsigM⟩ := Cond.code_spec hnamed (Cx.ts _ k5)
  cases hmethM.symm.trans hmethM'
  obtain ⟨c2, r2, m2, q1, q2, q3, q4, kP, hkP, hkPi⟩ := Cond.selects_spec (Cx.ts _ k3)
  cases hcls.symm.trans q1
  cases (State.methodFound?_of_named hnamed ⟨hy1, hy2⟩).symm.trans q2
  cases hnamed.symm.trans q3
  have hselP : selectMethod e.platform s.vm cellB.cls mk = .method mk := by rw [Launch.admits_selectMethod X.admits]; exact q4
  obtain ⟨vm₁, X₁, hstep₁⟩ := X.invokevirtual Cx.1 Cx.own (Cx.ts _ k1) hnamed hmethM hstM hkP hkPi ⟨hy1, hy2⟩ (a := b) (cell := cellB) g1
    (fun z h => by rw [h] at hobj; cases hobj) hselP hmethM habM hkP hkPi (g := g) hg (argsL := As) (rest := rest) (by rw [hsigM] at hlen; exact hn.trans (Option.some.inj hlen).symm) hst hdg
  exact ⟨mk, vm₁, X₁, X₁.named hnamed, fun target h => hstep₁ _ fun acts => by rw [doInvoke_state]; exact h⟩
/-- .. a private method of the receiver's superclass -/
def CallP (own : String) (idx : Nat) (J' : JT) (n : Nat) : Prop := Cond.methodLink own idx (jy J') ∈ lw_all ∧ Cond.instanceMethod (jy J') ∈ lw_all ∧ Cond.privateMethod (jy J') ∈ lw_tbl ∧ (∃ (C : String) (x y : MethodName), Cond.selects C x y ∈ lw_all ∧ y.cls = (jy J').cls) ∧ Cond.initialized (jy J').cls ∈ lw_all ∧ Cond.code (jy J') (jc J') (jn J') (jr J') ∈ lw_all ∧
  ((jy J').cls ≠ "java/lang/invoke/MethodHandle" ∧ (jy J').cls ≠ "java/lang/invoke/VarHandle" ∧ (parseMethodDescriptor (jy J').desc).map (fun d => d.parameters.length) = some n) ∧ jn J' ≤ 21
theorem enterP (X : Stand p (gl Γ) e (Rm d mc ms) s m args below meth c U locs cells slots) (Cx : Ctx Γ J p s m args meth c) (hI : In Γ A σ s U.heap locs) (hK : CallP (jy J).cls idx J' n) (hb : cty σ b = ci + 1) (hc : cls_[ci]? = some r) (hn : As.length = n) (hg : g.method = m) (hst : g.stack = As.reverse ++ .ref b :: rest) (hdg : decode c.code g.pc = .ok (.invokevirtual idx, 3)) :
    ∃ (mk : MethodId) (vm₁ : Vm), Stand p (gl Γ) e (Rm d mc ms) s m args below meth c (U.setVm vm₁) locs cells slots ∧ (U.setVm vm₁).methodNamed? (jy J') = some mk ∧ ∀ target, Steps p.tables e below (doInvoke e ((U.setVm vm₁).setTop { g with stack := rest }) [] mk (Value.ref b :: As).toArray).1 target → Steps p.tables e below (U.setTop g) target := by
  obtain ⟨k1, k2, k3, k4, k5, k6, ⟨hy1, hy2, hlen⟩, k8⟩ := hK
  obtain ⟨cellB, g1, g2, g3, -⟩ := (hI.1.2.2.2.1 b).1 ci r hb hc
  have hobj : cellB.vm.isStatics = false := by rw [g3]; rfl
  obtain ⟨mk, methM, hnamed, hmethM, hstM, habM⟩ := Cond.instanceMethod_spec (Cx.ts _ k2)
  obtain ⟨methM', cM, hmethM', -, -, -, -, -, -, hsigM⟩ := Cond.code_spec hnamed (Cx.ts _ k6)
  cases hmethM.symm.trans hmethM'
  have hfc := findClass_of_methodNamed hnamed
  obtain ⟨C4, x4, y4, k4, hy4⟩ := k4
  obtain ⟨c5, r5, m5, -, -, q5, -, kP, hkP, hkPi⟩ := Cond.selects_spec (Cx.ts _ k4)
  have hfc5 := findClass_of_methodNamed q5
  rw [hy4] at hfc5
  rw [← Option.some.inj (hfc.symm.trans hfc5)] at hkP
  have hselP : selectMethod e.platform s.vm cellB.cls mk = .method mk := by
    rw [Launch.admits_selectMethod X.admits]
    exact selectMethod_private hmethM (Cond.privateMethod_at (args := #[]) (Cx.kw _ k3 rfl) mk methM hnamed hmethM)
  obtain ⟨vm₁, X₁, hstep₁⟩ := X.invokevirtual Cx.1 Cx.own (Cx.ts _ k1) hnamed hmethM hstM hkP hkPi ⟨hy1, hy2⟩ (a := b) (cell := cellB) g1
    (fun z h => by rw [h] at hobj; cases hobj) hselP hmethM habM hkP hkPi (g := g) hg (argsL := As) (rest := rest) (by rw [hsigM] at hlen; exact hn.trans (Option.some.inj hlen).symm) hst hdg
  exact ⟨mk, vm₁, X₁, X₁.named hnamed, fun target h => hstep₁ _ fun acts => by rw [doInvoke_state]; exact h⟩
/-- a call that throws out of a method without handlers -/
theorem Ex_callVT (h : CM Γ J' d' (.ref b :: As) σ bc bs (.threw x, σ1)) (hK : CallV (jy J).cls idx J' r.1 n) (hb : cty σ b = ci + 1) (hc : cls_[ci]? = some r) (hd : d' + 1 ≤ d) (hn : As.length = n) (hst : st = As.reverse ++ .ref b :: rest) (hw : (rest.map fun v => v.category).sum ≤ 8) (hdg : decode (jc J) pc = .ok (.invokevirtual idx, 3)) : Ex Γ J d pc lv st σ bc bs (.threw x, σ1) := by
  intro A p e s m args below meth c H locs cells slots mc ms ls X hl hI h1 h2 T hT Y
  subst hst
  subst hT
  obtain ⟨mk, vm₁, Y1, hnm, go⟩ := enterV Y X hI hK hb hc hn (g := F0 m pc ls (As.reverse ++ .ref b :: rest)) rfl rfl (by rw [X.2.1]; exact hdg)
  have hk5 := hK.2.2.2.2.1
  have hk6 := hK.2.2.2.2.2.1.1
  obtain ⟨U', L, Y2, hL, hRep, hF, hdom, hsteps⟩ := h.throws Y1 X.ts hk5 (by rw [hk6]; exact hK.2.2.2.1) hK.2.2.2.2.2.2 hd h1 h2 (g := { F0 m pc ls (As.reverse ++ .ref b :: rest) with stack := rest }) rfl (hl.1.trans X.ml.symm) (by rw [X.2.1]; exact hdg) (lv_room (m := m) (pc := pc) (ls := ls) (rest := rest) hw) hnm (Pcx.at X hI _ rfl Y1.warmed)
  obtain ⟨t, ht, hq⟩ := throw_end (J := J) (x := x) (σ := σ1) (g := { F0 m pc ls (As.reverse ++ .ref b :: rest) with stack := rest }) (Stand.mono_ Y2 h1 h2) X (In.call (U := T.setVm vm₁) hI hRep hF hdom hL) rfl rfl rfl
  exact ⟨t, go t (hsteps.trans ht), hq⟩
/-- athrow out of a method without handlers -/
theorem Ex_athrow {a : Nat} (hdg : decode (jc J) pc = .ok (.athrow, 1)) : Ex Γ J d pc lv (.ref a :: rest) σ bc bs (.threw a, σ) := by
  intro A p e s m args below meth c H locs cells slots mc ms ls X hl hI h1 h2 T hT Y
  subst hT
  have Y2 := Stand.mono_ Y (Nat.le_trans (Nat.le_add_right _ _) h1) (Nat.le_trans (Nat.le_add_right _ _) h2)
  obtain ⟨hs, z2, z3, z4, z5⟩ := Y2.athrowLeaves X.1 (g := F0 m pc ls (.ref a :: rest)) rfl rfl rfl (fun y hy => (X.ex y hy).elim) rfl (by rw [X.2.1]; exact hdg) X.lk
  exact ⟨_, hs, .threw a, z2, z3, hI.q rfl, locs, ⟨z4, z5⟩, hI.2.1.2.2⟩
/-- a private method of the receiver's superclass: it comes back -/
theorem Ex_callP (h : CM Γ J' d' (.ref b :: As) σ bc' bs' (.returned v, σ1)) (hK : CallP (jy J).cls idx J' n) (hb : cty σ b = ci + 1) (hc : cls_[ci]? = some r) (hd : d' + 1 ≤ d) (hn : As.length = n) (hst : st = As.reverse ++ .ref b :: rest) (hw : (rest.map fun v => v.category).sum ≤ 8) (hdg : decode (jc J) pc = .ok (.invokevirtual idx, 3))
    (k : Ex Γ J d (pc + 3) lv (v.toList ++ rest) σ1 bc bs out) : Ex Γ J d pc lv st σ (bc' + bc) (bs' + bs) out := by
  intro A p e s m args below meth c H locs cells slots mc ms ls X hl hI h1 h2
  subst hst
  have hK2 := hK
  obtain ⟨k1, k2, k3, k4, k5, k6, k7, k8⟩ := hK
  refine run_go X hl hI (a' := (Value.ref b :: As).toArray) ?_ k h1 h2
  intro T hT Y
  subst hT
  obtain ⟨mk, vm₁, Y1, hnm, go⟩ := enterP Y X hI hK2 hb hc hn (g := F0 m pc ls (As.reverse ++ .ref b :: rest)) rfl rfl (by rw [X.2.1]; exact hdg)
  have cb : Back (gl Γ) (Rm d mc ms) p e below s args (jy J') 3 8 (PreOf (Rm d mc ms) bc' bs' (Pcx Γ σ (.ref b :: As))) (PostOf (Qcx Γ (Adom σ) (.returned v, σ1)) bc' bs' (Adom σ)) :=
    back_of (bytes := jc J') (maxL := jn J') (ret := jr J') h.met Pcx.blind rfl rfl hd (by show 8 + (jn J' + 11) + 40 * d' ≤ 40 * d; omega) (pay_in X.ts (lw_meth k6)) List.mem_cons_self (fun a' U hW => pay_in X.ts (lw_meth k6) _ (List.mem_cons_of_mem _ k5) a' U hW)
  obtain ⟨v', B, Y', hpost, hsteps⟩ := cb m meth c ⟨T.setVm vm₁, locs, cells, slots⟩ { F0 m pc ls (As.reverse ++ .ref b :: rest) with stack := rest } (.invokevirtual idx) mk (Value.ref b :: As).toArray Y1 rfl (hl.1.trans X.ml.symm) (by rw [X.2.1]; exact hdg) (lv_room (m := m) (pc := pc) (ls := ls) (rest := rest) hw) hnm ⟨by show cells + bc' ≤ mc; omega, by show slots + bs' ≤ ms; omega, Pcx.at X hI _ rfl Y1.warmed⟩
  obtain ⟨U', l2, c2, s2⟩ := B
  obtain ⟨g', mk', t, L, e1, e2, hq, x1, hL, x2, x3⟩ := hpost
  dsimp only [Pt.U, Pt.locs, Pt.cells, Pt.slots] at Y' e1 e2 x1 x2 x3 hsteps
  subst x1; subst x2; subst x3
  exact ⟨v', (T.setVm vm₁).calling g' mk' (Value.ref b :: As).toArray, t, U', L, rfl, Y', hL, e1, e2, hq, fun tg htg => go tg (hsteps.trans htg)⟩
end TH
