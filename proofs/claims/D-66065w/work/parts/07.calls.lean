set_option maxRecDepth 100000
section CC
variable {Γ : GT} {J J' : JT} {d d' pc : Nat} {lv : List (Nat × Value)} {st rest av As : List Value} {σ σ1 : CS} {bc bs bc' bs' : Nat} {out : Outcome × CS} {v : Option Value} {b idx n ci : Nat} {C : String} {r : vw_C}
/-- a body walked from its entry is a contract -/
theorem CM.of (hy : plainName (jy J).cls = true) (hlen : (lg_sl av).length ≤ jn J) (k : Ex Γ J d 0 (lv_args 0 av) [] σ bc bs out) : CM Γ J d av σ bc bs out := by
  refine MetFree.of_bodyS (code := jc J) (maxLocals := jn J) (ret := jr J) hy ?_ ?_
  · intro args s m h hn
    obtain ⟨meth, c, h1, h2, h3, h4, h5, h6, -, -⟩ := Cond.code_spec hn (atoms_spec (ws := ws_ (jy J) (jc J) (jn J) (jr J)) h _ List.mem_cons_self)
    exact ⟨meth, c, h1, h2, h3, h4, h5, h6⟩
  · intro p e s m args below meth c s₁ B hml hP _
    obtain ⟨rfl, hRep, hKN, hKW, hKZ⟩ := hP
    have hts0 := atoms_spec (ws := ws_ (jy J) (jc J) (jn J) (jr J)) B.pre
    have hts : ∀ w ∈ lw_all, w.before av.toArray s = true := fun w h => hts0 w (List.mem_cons_of_mem _ h)
    have hnh : ∀ x ∈ c.exceptionTable.toList, False := by
      intro x hx
      have h1 := B.noHandlers (hts0 _ List.mem_cons_self)
      have h2 : c.exceptionTable = #[] := Array.isEmpty_iff.mp h1
      rw [h2] at hx
      cases hx
    have hC : Ctx Γ J p s m av.toArray meth c := ⟨B.exec, B.bytes, B.returns, B.notSynchronized, hml, findClass_of_methodNamed B.named, hts, hKW, hKN, (name_of_methodNamed B.named B.method).1, hnh, hKZ, hRep.2.2.1⟩
    have hl := lv_entry av (n := jn J) hlen
    have hI : In Γ (Adom σ) σ s s.heap [] := ⟨hRep, va_S.rf, fun a h => Or.inl h, fun q h => Or.inr (by rw [← hRep.1]; exact h)⟩
    have K := k (Adom σ) p e s m av.toArray below meth c s.heap [] 0 0 bc bs _ hC hl hI (by omega) (by omega)
    rw [← lg_entry_eq] at K
    obtain ⟨t, a1, o, b1, b2, b3, L, b4, b5⟩ := K s₁ (by rw [B.state]; rfl) (Stand.of_body B)
    exact ⟨t, o, a1, b1, b2, b3, L, b4, b5⟩
theorem CM.met (h : CM Γ J d av σ bc bs (.returned v, σ1)) : Met (gl Γ) (jy J) (ws_ (jy J) (jc J) (jn J) (jr J)) (Rm d bc bs) (Pcx Γ σ av) (Qcx Γ (Adom σ) (.returned v, σ1)) bc bs (Adom σ) := by
  intro p e ha hc hk s m args below hf happ hP hK
  obtain ⟨n, o, h1, h2, h3, h4, L, h5, h6⟩ := h p e ha hc hk s m args below hf happ hP hK
  exact ⟨n, o, h1, h2, h3, h4, L, ⟨⟨v, h4.1⟩, h5⟩, h6⟩
theorem Pcx.blind : FrameBlind (Pcx Γ σ av) := fun a U g mk q => ⟨q.1, q.2.1, va_K.moved (u := U) (U := U.calling g mk a) (Vm.Alike.refl U.vm) q.2.2.1, q.2.2.2.1.same rfl, KZ.moved (u := U) (U := U.calling g mk a) (Vm.Alike.refl U.vm) q.2.2.2.2⟩
theorem Pcx.at {A : Nat → Prop} {p : Program} {s : State} {m : MethodId} {args : Array Value} {meth : Method} {c : Code} {H : Heap} {locs : List Loc} (X : Ctx Γ J p s m args meth c) (hI : In Γ A σ s H locs) (U : State) (hU : U.heap = H) (hW : s.WarmedH U.vm) : Pcx Γ σ av av.toArray U := ⟨rfl, by rw [hU]; exact hI.1, va_K.moved hW.alike X.kn, X.kw.warm hW, X.kz.moved hW.alike⟩
/-- behind a call that came back -/
theorem run_go {A : Nat → Prop} {p : Program} {e : Env} {s : State} {m : MethodId} {args : Array Value} {below : List Frame} {meth : Method} {c : Code} {H : Heap} {locs : List Loc} {cells slots mc ms : Nat} {ls : Array Slot} {a' : Array Value}
    (X : Ctx Γ J p s m args meth c) (hl : lv_has ls (jn J) lv) (hI : In Γ A σ s H locs) (hrun : va_Run p (gl Γ) e (Rm d mc ms) s m args below meth c H locs cells slots bc' bs' (F0 m pc ls st) rest (Qcx Γ (Adom σ) (.returned v, σ1) a') (Adom σ))
    (k : Ex Γ J d (pc + 3) lv (v.toList ++ rest) σ1 bc bs out) (h1 : cells + (bc' + bc) ≤ mc) (h2 : slots + (bs' + bs) ≤ ms) : W p (gl Γ) e (Rm d mc ms) s m args below meth c H locs cells slots (MQX below (Qcx Γ A out) args s mc ms A) (F0 m pc ls st) := by
  intro T hT Y
  obtain ⟨v', st₀, t, T', L, h0, Y', hL, e1, e2, ⟨ho, hRep, hF, hdom⟩, go⟩ := hrun T hT Y
  cases ho
  obtain ⟨hR, hS, hd, hA⟩ := hI
  have hsz : s.heap.size ≤ csz σ := by rw [← hR.1]; exact hS.1
  have hAd : ∀ q, Adom σ q → A q := fun q h => h.elim (hd q) (fun h => hA q (Nat.le_trans hsz h))
  obtain ⟨t2, a1, b1⟩ := k A p e s m args below meth c T'.heap (locs ++ L) (cells + bc') (slots + bs') mc ms ls X hl
    ⟨by rw [e1]; exact hRep, ⟨by rw [e1]; exact Nat.le_trans hS.1 (by rw [← h0]; exact hF.1), fun q x1 x2 => by
        rw [e1, hF.2 q (by rw [h0]; exact Nat.lt_of_lt_of_le x1 hS.1) (fun z => x2 (hAd q z)), h0]
        exact hS.2.1 q x1 x2, fun q hq => by
        rcases List.mem_append.mp hq with h | h
        · exact hS.2.2 q h
        · exact hAd _ (hL q h)⟩, fun a h => hAd a (hdom a h), hA⟩ (by omega) (by omega) T' rfl Y'
  exact ⟨t2, go t2 a1, b1⟩
/-- a call through an object of the world -/
def CallV (own : String) (idx : Nat) (J' : JT) (C : String) (n : Nat) : Prop := Cond.methodLink own idx (jy J') ∈ lw_all ∧ Cond.instanceMethod (jy J') ∈ lw_all ∧ Cond.selects C (jy J') (jy J') ∈ lw_all ∧ Cond.initialized C ∈ lw_all ∧ Cond.code (jy J') (jc J') (jn J') (jr J') ∈ lw_all ∧
  ((jy J').cls = C ∧ (jy J').cls ≠ "java/lang/invoke/MethodHandle" ∧ (jy J').cls ≠ "java/lang/invoke/VarHandle" ∧ (parseMethodDescriptor (jy J').desc).map (fun d => d.parameters.length) = some n) ∧ jn J' ≤ 21
theorem Ex_callV (h : CM Γ J' d' (.ref b :: As) σ bc' bs' (.returned v, σ1)) (hK : CallV (jy J).cls idx J' r.1 n) (hb : cty σ b = ci + 1) (hc : cls_[ci]? = some r) (hd : d' + 1 ≤ d) (hn : As.length = n) (hst : st = As.reverse ++ .ref b :: rest) (hw : (rest.map fun v => v.category).sum ≤ 8) (hdg : decode (jc J) pc = .ok (.invokevirtual idx, 3))
    (k : Ex Γ J d (pc + 3) lv (v.toList ++ rest) σ1 bc bs out) : Ex Γ J d pc lv st σ (bc' + bc) (bs' + bs) out := by
  intro A p e s m args below meth c H locs cells slots mc ms ls X hl hI h1 h2
  subst hst
  obtain ⟨k1, k2, k3, k4, k5, k6, k7⟩ := hK
  obtain ⟨cellV, g1, g2, g3, -⟩ := (hI.1.2.2.2.1 b).1 ci r hb hc
  exact run_go X hl hI (va_runV (As := As) (rest := rest) ⟨X.1, X.2.1, X.ml, X.own, X.ts⟩ h.met (cwV n X.ts (lw_V k1 k2 k3 k4 k5) rfl rfl rfl k6 ⟨hd, by show 8 + (jn J' + 11) + 40 * d' ≤ 40 * d; omega⟩)
    ⟨Pcx.blind, ⟨cellV, g1, by rw [g3]; rfl, by rw [g2]; exact (X.kn.1 ci r hc).2.1⟩, Pcx.at X hI⟩ rfl hn hl.1 rfl (lv_room hw) hdg ⟨by show cells + bc' ≤ mc; omega, by show slots + bs' ≤ ms; omega⟩) k h1 h2
/-- a static call -/
def CallS (own : String) (idx : Nat) (J' : JT) (n : Nat) : Prop := Cond.methodLink own idx (jy J') ∈ lw_all ∧ Cond.static (jy J') ∈ lw_all ∧ Cond.initialized (jy J').cls ∈ lw_all ∧ Cond.code (jy J') (jc J') (jn J') (jr J') ∈ lw_all ∧
  ((jy J').cls ≠ "java/lang/invoke/MethodHandle" ∧ (jy J').cls ≠ "java/lang/invoke/VarHandle" ∧ (parseMethodDescriptor (jy J').desc).map (fun d => d.parameters.length) = some n) ∧ jn J' ≤ 21
theorem Ex_callS (h : CM Γ J' d' As σ bc' bs' (.returned v, σ1)) (hK : CallS (jy J).cls idx J' n) (hd : d' + 1 ≤ d) (hn : As.length = n) (hst : st = As.reverse ++ rest) (hw : (rest.map fun v => v.category).sum ≤ 8) (hdg : decode (jc J) pc = .ok (.invokestatic idx, 3))
    (k : Ex Γ J d (pc + 3) lv (v.toList ++ rest) σ1 bc bs out) : Ex Γ J d pc lv st σ (bc' + bc) (bs' + bs) out := by
  intro A p e s m args below meth c H locs cells slots mc ms ls X hl hI h1 h2
  subst hst
  obtain ⟨k1, k2, k3, k4, k6, k7⟩ := hK
  exact run_go X hl hI (va_runS (As := As) (rest := rest) ⟨X.1, X.2.1, X.ml, X.own, X.ts⟩ h.met (va_cwS n X.ts (lw_S k1 k2 k3 k4) rfl rfl rfl k6 ⟨hd, by show 8 + (jn J' + 11) + 40 * d' ≤ 40 * d; omega⟩)
    ⟨Pcx.blind, Pcx.at X hI⟩ rfl hn hl.1 rfl (lv_room hw) hdg ⟨by show cells + bc' ≤ mc; omega, by show slots + bs' ≤ ms; omega⟩) k h1 h2
/-- a constructor's call: of a class that is seen, of a nest mate -/
def CallI (own : String) (idx : Nat) (J' : JT) (n : Nat) : Prop := Cond.methodLink own idx (jy J') ∈ lw_all ∧ Cond.instanceMethod (jy J') ∈ lw_all ∧ Cond.initialized (jy J').cls ∈ lw_all ∧ Cond.code (jy J') (jc J') (jn J') none ∈ lw_all ∧ jr J' = none ∧ (jy J').name = "<init>" ∧
  ((jy J').cls ≠ "java/lang/invoke/MethodHandle" ∧ (jy J').cls ≠ "java/lang/invoke/VarHandle" ∧ (parseMethodDescriptor (jy J').desc).map (fun d => d.parameters.length) = some n) ∧ jn J' ≤ 21
theorem Ex_callI (h : CM Γ J' d' (.ref b :: As) σ bc' bs' (.returned none, σ1)) (hK : CallI (jy J).cls idx J' n) (hd : d' + 1 ≤ d) (hn : As.length = n) (hst : st = As.reverse ++ .ref b :: rest) (hw : (rest.map fun v => v.category).sum ≤ 8) (hdg : decode (jc J) pc = .ok (.invokespecial idx, 3))
    (k : Ex Γ J d (pc + 3) lv rest σ1 bc bs out) : Ex Γ J d pc lv st σ (bc' + bc) (bs' + bs) out := by
  intro A p e s m args below meth c H locs cells slots mc ms ls X hl hI h1 h2
  subst hst
  obtain ⟨k1, k2, k3, k4, k5, k6, k7, k8⟩ := hK
  have hM := h.met
  rw [k5] at hM
  exact run_go (v := none) X hl hI (va_runI (As := As) (rest := rest) ⟨X.1, X.2.1, X.ml, X.own, X.ts⟩ hM (cwI n X.ts (lw_meth k4) rfl rfl rfl (X.ts _ k3) (X.ts _ k1) (X.ts _ k2) k6 k7 ⟨hd, by show 8 + (jn J' + 11) + 40 * d' ≤ 40 * d; omega⟩)
    ⟨Pcx.blind, Pcx.at X hI⟩ rfl hn hl.1 rfl (lv_room hw) hdg ⟨by show cells + bc' ≤ mc; omega, by show slots + bs' ≤ ms; omega⟩) k h1 h2
/-- Object's own constructor -/
theorem Ex_objInit (hl' : Cond.methodLink (jy J).cls idx Lib.objectInit ∈ lw_all) (hi : Cond.instanceMethod Lib.objectInit ∈ lw_all) (hc : Cond.code Lib.objectInit ⟨#[0xb1]⟩ 1 none ∈ lw_all) (hd : 1 ≤ d) (hw : (rest.map fun v => v.category).sum ≤ 8) (hdg : decode (jc J) pc = .ok (.invokespecial idx, 3)) (k : Ex Γ J d (pc + 3) lv rest σ bc bs out) : Ex Γ J d pc lv (.ref b :: rest) σ bc bs out := by
  intro A p e s m args below meth c H locs cells slots mc ms ls X hl hI h1 h2
  refine W.objInit X.1 X.2.1 X.own (X.ts _ hl') (X.ts _ hi) (X.ts _ hc) rfl (by rw [X.ml]; exact hl.1) rfl hdg hd ?_ (k A p e s m args below meth c H locs cells slots mc ms ls X hl hI h1 h2)
  have := lv_room (m := m) (pc := pc) (ls := ls) (rest := .ref b :: rest) hw
  show _ ≤ 40 * d
  omega
end CC
