set_option maxRecDepth 100000
section HR
variable {Γ : GT} {A : Nat → Prop} {σ σ' : CS} {s : State} {H H1 : Heap} {locs : List Loc} {a : Nat}
theorem cls_lt {ci : Nat} {q : vw_C} (h : cls_[ci]? = some q) : ci < 14 ∧ q.2.2 < 100 := by
  have h1 : ci < cls_.length := (List.getElem?_eq_some_iff.mp h).1
  have h2 : q ∈ cls_ := List.mem_of_getElem? h
  refine ⟨h1, ?_⟩
  have h3 : (cls_.all fun q => decide (q.2.2 < 100)) = true := rfl
  simpa using List.all_eq_true.mp h3 q h2
theorem gid_inj {ci j k : Nat} (hj : j < 100) (hk : k < 100) (h : gid ci j = gid ci k) : j = k := by
  unfold gid at h
  split at h <;> split at h <;> omega
/-- one cell is written -/
theorem Rep.upd (h : Rep Γ σ H) (ha : cty σ a ≠ 0) (z : H1.size = H.size) (oq : ∀ q : Nat, q ≠ a → H1[q]? = H[q]?) (e1 : cty σ' = cty σ) (e2 : cln σ' = cln σ) (e3 : csz σ' = csz σ)
    (e4 : ∀ b, b ≠ a → (∀ g, chi σ' g b = chi σ g b) ∧ (∀ g, chr σ' g b = chr σ g b) ∧ cai σ' b = cai σ b ∧ car σ' b = car σ b) (hp : pic Γ σ' a H1) : Rep Γ σ' H1 := by
  obtain ⟨h1, h2, h3, h4, h5⟩ := h
  refine ⟨by rw [z, e3]; exact h1, by rw [e3]; exact h2, fun q hq => ?_, fun b => ?_, by rw [e1, e3]; exact h5⟩
  · rw [oq q (fun e => by have := (h5 a ha).1; omega)]
    exact h3 q hq
  · by_cases hb : b = a
    · rw [hb]; exact hp
    · obtain ⟨p1, p2, p3, p4, p5⟩ := h4 b
      obtain ⟨x1, x2, x3, x4⟩ := e4 b hb
      refine ⟨fun ci q hc hq => ?_, ?_, ?_, ?_, ?_⟩
      · rw [e1] at hc
        refine ((p1 ci q hc hq).kept (oq b hb)).to fun k _ => ?_
        simp only [fval, x1, x2]
      all_goals rw [e1, e2, oq b hb]
      · rw [x3]; exact p2
      · rw [x3]; exact p3
      · rw [x3]; exact p4
      · rw [x4]; exact p5
theorem In.upd {k : Nat} (h : In Γ A σ s H locs) (ha : cty σ a ≠ 0) (z : H1.size = H.size) (oq : ∀ q : Nat, q ≠ a → H1[q]? = H[q]?) (e1 : cty σ' = cty σ) (e2 : cln σ' = cln σ) (e3 : csz σ' = csz σ)
    (e4 : ∀ b, b ≠ a → (∀ g, chi σ' g b = chi σ g b) ∧ (∀ g, chr σ' g b = chr σ g b) ∧ cai σ' b = cai σ b ∧ car σ' b = car σ b) (hp : pic Γ σ' a H1) : In Γ A σ' s H1 (locs ++ [⟨a, k⟩]) :=
  ⟨h.1.upd ha z oq e1 e2 e3 e4 hp, h.2.1.put z oq (h.2.2.1 a ha), by rw [e1]; exact h.2.2.1, h.2.2.2⟩
/-- a cell is made -/
theorem In.new {h : Nat} (hI : In Γ A σ s H locs) (hh : H.size = h) (z : H1.size = h + 1) (oq : ∀ q : Nat, q < h → H1[q]? = H[q]?) (e0 : cty σ' h ≠ 0) (e1 : ∀ b, b ≠ h → cty σ' b = cty σ b ∧ cln σ' b = cln σ b ∧ (∀ g, chi σ' g b = chi σ g b) ∧ (∀ g, chr σ' g b = chr σ g b) ∧ cai σ' b = cai σ b ∧ car σ' b = car σ b) (e3 : csz σ' = csz σ + 1)
    (hp : pic Γ σ' h H1) : In Γ A σ' s H1 locs := by
  obtain ⟨⟨h1, h2, h3, h4, h5⟩, hS, hd, hA⟩ := hI
  have hz : h = csz σ := by omega
  refine ⟨⟨by omega, by omega, fun q hq => ?_, fun b => ?_, fun b hb => ?_⟩, ⟨by have := hS.1; omega, fun q x1 x2 => (oq q (by have := hS.1; omega)).trans (hS.2.1 q x1 x2), hS.2.2⟩, fun b hb => ?_, hA⟩
  · rw [oq q (by omega)]; exact h3 q hq
  · by_cases hb : b = h
    · rw [hb]; exact hp
    · obtain ⟨p1, p2, p3, p4, p5⟩ := h4 b
      obtain ⟨y1, y2, x1, x2, x3, x4⟩ := e1 b hb
      by_cases ht : cty σ b = 0
      · refine ⟨fun ci q hc hq => ?_, ?_, ?_, ?_, ?_⟩
        · rw [y1, ht] at hc; omega
        all_goals intro hc; rw [y1, ht] at hc; omega
      · have hlt : b < h := by have := (h5 b ht).2; omega
        refine ⟨fun ci q hc hq => ?_, ?_, ?_, ?_, ?_⟩
        · rw [y1] at hc
          refine ((p1 ci q hc hq).kept (oq b hlt)).to fun k _ => ?_
          simp only [fval, x1, x2]
        all_goals rw [y1, y2, oq b hlt]
        · rw [x3]; exact p2
        · rw [x3]; exact p3
        · rw [x3]; exact p4
        · rw [x4]; exact p5
  · by_cases hbb : b = h
    · omega
    · rw [(e1 b hbb).1] at hb
      have := h5 b hb
      omega
  · by_cases hbb : b = h
    · subst hbb; exact hA _ (by have := hS.1; omega)
    · rw [(e1 b hbb).1] at hb
      exact hd b hb
end HR
/-- a field, found by an entry of a class's pool, in an object of tag t -/
def Link (own : String) (idx : Nat) (e : String × String × String × Bool) : Prop := ∃ ref, ((Cond.fieldLink own idx ref e.2.1 e.2.2.1 ∈ lw_all) ∨ ∃ host, Cond.fieldLinkNest own idx ref e.2.1 e.2.2.1 host ∈ lw_tbl) ∧ (ref = e.1 ∨ Cond.sameField ref e.1 e.2.1 e.2.2.1 ∈ lw_all)
def FldOK (own : String) (idx g : Nat) (t : Nat) : Prop := ∃ (ci : Nat) (q : vw_C) (ty : Nat → FieldType) (k : Nat), t = ci + 1 ∧ ClsOK ci q ty ∧ k < q.2.2 ∧ gid ci k = g ∧ Link own idx (q.2.1 k)
/-- .. that may be written: not final, of type ft -/
def FldW (own : String) (idx g : Nat) (ft : FieldType) (t : Nat) : Prop := ∃ (ci : Nat) (q : vw_C) (ty : Nat → FieldType) (k : Nat), t = ci + 1 ∧ ClsOK ci q ty ∧ k < q.2.2 ∧ gid ci k = g ∧ Link own idx (q.2.1 k) ∧ (q.2.1 k).2.2.2 = false ∧ ty k = ft
/-- .. a final one, in its class's constructor -/
def FldF (own : String) (idx g : Nat) (ft : FieldType) (t : Nat) : Prop := ∃ (ci : Nat) (q : vw_C) (ty : Nat → FieldType) (k : Nat), t = ci + 1 ∧ ClsOK ci q ty ∧ k < q.2.2 ∧ gid ci k = g ∧ (q.2.1 k).2.2.2 = true ∧ (q.2.1 k).1 = own ∧ Cond.fieldLink own idx own (q.2.1 k).2.1 (q.2.1 k).2.2.1 ∈ lw_all ∧ ty k = ft
section HX
variable {Γ : GT} {J : JT} {d pc : Nat} {lv : List (Nat × Value)} {rest : List Value} {σ : CS} {bc bs : Nat} {out : Outcome × CS} {a idx g : Nat}
theorem link_same {s : State} {args : Array Value} (hts : ∀ w ∈ lw_all, w.before args s = true) {ref O n D : String} (h : ref = O ∨ Cond.sameField ref O n D ∈ lw_all) : ∀ x, s.fieldFound? O n D = some x → s.fieldFound? ref n D = some x := by
  rcases h with h | h
  · subst h; exact fun _ h => h
  · exact fun x hx => u_same (hts _ h) x hx
theorem Ex_get {v : Value} (hF : FldOK (jy J).cls idx g (cty σ a)) (hv : ∀ ci k, gid ci k = g → fval Γ σ ci a k = v) (hdg : decode (jc J) pc = .ok (.getfield idx, 3)) (kk : Ex Γ J d (pc + 3) lv (v :: rest) σ bc bs out) : Ex Γ J d pc lv (.ref a :: rest) σ bc bs out := by
  intro A p e s m args below meth c H locs cells slots mc ms ls C hl hI h1 h2
  obtain ⟨ci, q, ty, k, ht, hC, hk, hg, ref, hL, hsm⟩ := hF
  obtain ⟨cell, q1, q2, q3, q4⟩ := (hI.1.2.2.2.1 a).1 ci q ht hC.1
  obtain ⟨hS, hfc, kC, hkC, hkind⟩ := C.kn.1 ci q hC.1
  obtain ⟨cf, kf, fi, f, hi', hsl⟩ := hS k hk
  have hslot : cell.slots[f.slot]? = some v := by rw [hsl, q4 k hk, hv ci k hg]
  have hst := (u_facts hfc hkC (u_lays C.ts hC.2.1 hk) hi').1
  have hkn : cell.vm ≠ .unknown := by rw [q3]; exact fun h => by cases h
  rcases hL with hL | ⟨host, hL⟩
  · exact W.getf C.1 C.2.1 C.own (C.ts _ hL) (link_same C.ts hsm _ hi') hst q1 hkn hslot rfl rfl hdg (kk A p e s m args below meth c H locs cells slots mc ms ls C hl hI h1 h2)
  · exact va_Wgetf C.1 C.2.1 C.own (va_Nw.use rfl (C.kw _ hL rfl)) (link_same C.ts hsm _ hi') hst q1 hkn hslot rfl rfl hdg (kk A p e s m args below meth c H locs cells slots mc ms ls C hl hI h1 h2)
theorem ne300 {g : Nat} (hi : isR g = false) : g ≠ 300 := by rintro rfl; exact absurd hi (by decide)
theorem Ex_getI (hF : FldOK (jy J).cls idx g (cty σ a)) (hi : isR g = false) (hdg : decode (jc J) pc = .ok (.getfield idx, 3)) (kk : Ex Γ J d (pc + 3) lv (.int (chi σ g a) :: rest) σ bc bs out) : Ex Γ J d pc lv (.ref a :: rest) σ bc bs out :=
  Ex_get hF (fun ci k h => by simp [fval, h, hi, ne300 hi]) hdg kk
theorem Ex_getE (hF : FldOK (jy J).cls idx 300 (cty σ a)) (hdg : decode (jc J) pc = .ok (.getfield idx, 3)) (kk : Ex Γ J d (pc + 3) lv (va_rf ((chr σ 300 a).map (gO Γ)) :: rest) σ bc bs out) : Ex Γ J d pc lv (.ref a :: rest) σ bc bs out :=
  Ex_get hF (fun ci k h => by simp [fval, h]) hdg kk
theorem Ex_getR (hF : FldOK (jy J).cls idx g (cty σ a)) (hi : isR g = true) (h3 : g ≠ 300) (hdg : decode (jc J) pc = .ok (.getfield idx, 3)) (kk : Ex Γ J d (pc + 3) lv (va_rf (chr σ g a) :: rest) σ bc bs out) : Ex Γ J d pc lv (.ref a :: rest) σ bc bs out :=
  Ex_get hF (fun ci k h => by simp [fval, h, hi, h3]) hdg kk
/-- the picture of a written object -/
theorem pic_put {σ' : CS} {H1 : Heap} {ci : Nat} {q : vw_C} {k : Nat} {v : Value} {cell : Cell} (ht : cty σ' a = ci + 1) (hc : cls_[ci]? = some q) (hk : k < q.2.2) (hap : ∀ x y, x < q.2.2 → y < q.2.2 → x ≠ y → (gD Γ).2 ci x ≠ (gD Γ).2 ci y)
    (q2 : cell.cls = (gD Γ).1 ci) (q3 : cell.vm = .none) (q4 : ∀ j, j < q.2.2 → cell.slots[(gD Γ).2 ci j]? = some (fval Γ σ ci a j)) (e1 : H1[a]? = some (cell.setSlot ((gD Γ).2 ci k) v)) (hv : fval Γ σ' ci a k = v) (hv2 : ∀ j, j < q.2.2 → j ≠ k → fval Γ σ' ci a j = fval Γ σ ci a j) : pic Γ σ' a H1 := by
  have hb := cls_lt hc
  refine ⟨fun ci' q' ht' hc' => ?_, fun h => by omega, fun h => by omega, fun h => by omega, fun h => by omega⟩
  have e : ci' = ci := by omega
  subst e
  cases hc.symm.trans hc'
  refine t_OB.to (V := updV (fval Γ σ ci' a) k v) ⟨_, e1, q2, q3, t_set q4 hap hk v⟩ fun j hj => ?_
  by_cases hjk : j = k
  · subst hjk; rw [hv]; simp [updV]
  · rw [hv2 j hj hjk]; simp [updV, hjk]
theorem Ex_putG {ft : FieldType} {v : Value} (hF : FldW (jy J).cls idx g ft (cty σ a)) (hn : narrow ft v = v) (hfit : fits ft v = true) {σ' : CS} (e1 : cty σ' = cty σ) (e2 : cln σ' = cln σ) (e3 : csz σ' = csz σ)
    (e4 : ∀ b, b ≠ a → (∀ g, chi σ' g b = chi σ g b) ∧ (∀ g, chr σ' g b = chr σ g b) ∧ cai σ' b = cai σ b ∧ car σ' b = car σ b) (hv : ∀ ci k, gid ci k = g → fval Γ σ' ci a k = v) (hv2 : ∀ ci k, gid ci k ≠ g → fval Γ σ' ci a k = fval Γ σ ci a k)
    (hdg : decode (jc J) pc = .ok (.putfield idx, 3)) (kk : Ex Γ J d (pc + 3) lv rest σ' bc bs out) : Ex Γ J d pc lv (v :: .ref a :: rest) σ bc bs out := by
  intro A p e s m args below meth c H locs cells slots mc ms ls C hl hI h1 h2
  obtain ⟨ci, q, ty, k, ht, hC, hk, hg, ⟨ref, hL, hsm⟩, hfin, hty⟩ := hF
  obtain ⟨cell, q1, q2, q3, q4⟩ := (hI.1.2.2.2.1 a).1 ci q ht hC.1
  have hap := va_apart (own := (jy J).cls) C.ts hC.2.1 ty hC.2.2.1 hC.2.2.2 C.kn hC.1
  obtain ⟨hS, hfc, kC, hkC, hkind⟩ := C.kn.1 ci q hC.1
  obtain ⟨cf, kf, fi, f, hi', hsl⟩ := hS k hk
  have hlay := C.ts _ (hC.2.1 _ (u_in_lay hk))
  unfold u_lay at hlay
  rw [if_neg (by rw [hfin]; decide)] at hlay
  have hst := (u_facts hfc hkC (u_lays C.ts hC.2.1 hk) hi').1
  have hd : parseFieldDescriptor (q.2.1 k).2.2.1 = some ft := by rw [hC.2.2.1 k hk, hty]
  have h6 := u_store hfc hkC hkind hlay hi' hd hn hfit
  have hlt : f.slot < cell.slots.size := by rw [hsl]; exact k2_hasslot (q4 k hk)
  have fin : ∀ (H' : Heap), H'[a]? = some (cell.setSlot f.slot v) → H'.size = H.size → (∀ q : Nat, q ≠ a → H'[q]? = H[q]?) → W p (gl Γ) e (Rm d mc ms) s m args below meth c H' (locs ++ [⟨a, f.slot⟩]) cells slots (MQX below (Qcx Γ A out) args s mc ms A) (F0 m (pc + 3) ls rest) := by
    intro H' x1 x2 x3
    rw [hsl] at x1
    refine kk A p e s m args below meth c H' _ cells slots mc ms ls C hl (hI.upd (by rw [ht]; omega) x2 x3 e1 e2 e3 e4 ?_) h1 h2
    refine pic_put (by rw [e1]; exact ht) hC.1 hk hap q2 q3 q4 x1 (hv ci k hg) fun j hj hjk => hv2 ci j fun h => hjk ?_
    have hb := cls_lt hC.1
    exact gid_inj (by omega) (by omega) (h.trans hg.symm)
  rcases hL with hL | ⟨host, hL⟩
  · exact W.putK C.1 C.2.1 (f := f) ⟨C.own, C.ts _ hL, ⟨_, _, _, link_same C.ts hsm _ hi'⟩, hst⟩ (by rw [q2]; exact h6) q1 q3 hlt rfl rfl hdg fin
  · exact va_WputK C.1 C.2.1 (f := f) C.own (va_Nw.use rfl (C.kw _ hL rfl)) (link_same C.ts hsm _ hi') hst (by rw [q2]; exact h6) q1 q3 hlt rfl rfl hdg fin
theorem Ex_putFG {ft : FieldType} {v : Value} (hF : FldF (jy J).cls idx g ft (cty σ a)) (hin : (jy J).name = "<init>") (hn : narrow ft v = v) (hfit : fits ft v = true) {σ' : CS} (e1 : cty σ' = cty σ) (e2 : cln σ' = cln σ) (e3 : csz σ' = csz σ)
    (e4 : ∀ b, b ≠ a → (∀ g, chi σ' g b = chi σ g b) ∧ (∀ g, chr σ' g b = chr σ g b) ∧ cai σ' b = cai σ b ∧ car σ' b = car σ b) (hv : ∀ ci k, gid ci k = g → fval Γ σ' ci a k = v) (hv2 : ∀ ci k, gid ci k ≠ g → fval Γ σ' ci a k = fval Γ σ ci a k)
    (hdg : decode (jc J) pc = .ok (.putfield idx, 3)) (kk : Ex Γ J d (pc + 3) lv rest σ' bc bs out) : Ex Γ J d pc lv (v :: .ref a :: rest) σ bc bs out := by
  intro A p e s m args below meth c H locs cells slots mc ms ls C hl hI h1 h2
  obtain ⟨ci, q, ty, k, ht, hC, hk, hg, hfin, hdecl, hL, hty⟩ := hF
  obtain ⟨cell, q1, q2, q3, q4⟩ := (hI.1.2.2.2.1 a).1 ci q ht hC.1
  have hap := va_apart (own := (jy J).cls) C.ts hC.2.1 ty hC.2.2.1 hC.2.2.2 C.kn hC.1
  obtain ⟨hS, hfc, kC, hkC, hkind⟩ := C.kn.1 ci q hC.1
  obtain ⟨cf, kf, fi, f, hi', hsl⟩ := hS k hk
  have hlay := C.ts _ (hC.2.1 _ (u_in_lay hk))
  unfold u_lay at hlay
  rw [if_pos hfin] at hlay
  have hst := (u_facts hfc hkC (u_lays C.ts hC.2.1 hk) hi').1
  have hd : parseFieldDescriptor (q.2.1 k).2.2.1 = some ft := by rw [hC.2.2.1 k hk, hty]
  have hcf : m.cls = cf := by
    obtain ⟨_, _, c', _, _, _, -, -, hf', -, -, -, hown2, -⟩ := Cond.laysFinal_spec hlay
    have e1 : c' = cf := by have := hi'.symm.trans hf'; simp at this; exact this.1.symm
    rw [hdecl] at hown2
    rw [← e1]; exact Option.some.inj (C.own.symm.trans hown2)
  have h6 := u_fits hfc hkC hkind (Or.inr hlay) hi' hd hn hfit
  have hlt : f.slot < cell.slots.size := by rw [hsl]; exact k2_hasslot (q4 k hk)
  refine W.putFinK C.1 C.2.1 C.own (C.ts _ hL) (by rw [hdecl] at hi'; exact hi') hst hcf (C.nm.trans hin) (by rw [q2]; exact h6) q1 q3 hlt rfl rfl hdg fun H' x1 x2 x3 => ?_
  rw [hsl] at x1
  refine kk A p e s m args below meth c H' _ cells slots mc ms ls C hl (hI.upd (by rw [ht]; omega) x2 x3 e1 e2 e3 e4 ?_) h1 h2
  refine pic_put (by rw [e1]; exact ht) hC.1 hk hap q2 q3 q4 x1 (hv ci k hg) fun j hj hjk => hv2 ci j fun h => hjk ?_
  have hb := cls_lt hC.1
  exact gid_inj (by omega) (by omega) (h.trans hg.symm)
theorem setI_o (σ : CS) (g a : Nat) (v : Int32) : ∀ b, b ≠ a → (∀ g', chi (setI σ g a v) g' b = chi σ g' b) ∧ (∀ g', chr (setI σ g a v) g' b = chr σ g' b) ∧ cai (setI σ g a v) b = cai σ b ∧ car (setI σ g a v) b = car σ b :=
  fun b hb => ⟨fun g' => by show (if g' = g ∧ b = a then v else chi σ g' b) = _; rw [if_neg (fun h => hb h.2)], fun _ => rfl, rfl, rfl⟩
theorem setR_o (σ : CS) (g a : Nat) (v : Option Nat) : ∀ b, b ≠ a → (∀ g', chi (setR σ g a v) g' b = chi σ g' b) ∧ (∀ g', chr (setR σ g a v) g' b = chr σ g' b) ∧ cai (setR σ g a v) b = cai σ b ∧ car (setR σ g a v) b = car σ b :=
  fun b hb => ⟨fun _ => rfl, fun g' => by show (if g' = g ∧ b = a then v else chr σ g' b) = _; rw [if_neg (fun h => hb h.2)], rfl, rfl⟩
theorem setI_v {v : Int32} (hi : isR g = false) (ci k : Nat) (h : gid ci k = g) : fval Γ (setI σ g a v) ci a k = .int v := by
  unfold fval; rw [h, hi, if_neg (ne300 hi)]; show Value.int (if g = g ∧ a = a then v else chi σ g a) = _; rw [if_pos ⟨rfl, rfl⟩]
theorem setI_n {v : Int32} (ci k : Nat) (h : gid ci k ≠ g) : fval Γ (setI σ g a v) ci a k = fval Γ σ ci a k := by
  have e : chi (setI σ g a v) (gid ci k) a = chi σ (gid ci k) a := by show (if gid ci k = g ∧ a = a then v else _) = _; rw [if_neg (fun q => h q.1)]
  have e2 : ∀ g', chr (setI σ g a v) g' a = chr σ g' a := fun _ => rfl
  unfold fval; rw [e, e2, e2]
theorem setR_v {v : Option Nat} (hi : isR g = true) (h3 : g ≠ 300) (ci k : Nat) (h : gid ci k = g) : fval Γ (setR σ g a v) ci a k = va_rf v := by
  unfold fval; rw [h, hi, if_neg h3]; show va_rf (if g = g ∧ a = a then v else chr σ g a) = _; rw [if_pos ⟨rfl, rfl⟩]
theorem setE_v {v : Option Nat} (ci k : Nat) (h : gid ci k = 300) : fval Γ (setR σ 300 a v) ci a k = va_rf (v.map (gO Γ)) := by
  unfold fval; rw [if_pos h]; show va_rf ((if 300 = 300 ∧ a = a then v else _).map _) = _; rw [if_pos ⟨rfl, rfl⟩]
theorem setR_n {v : Option Nat} (ci k : Nat) (h : gid ci k ≠ g) : fval Γ (setR σ g a v) ci a k = fval Γ σ ci a k := by
  have e2 : chr (setR σ g a v) (gid ci k) a = chr σ (gid ci k) a := by show (if gid ci k = g ∧ a = a then v else _) = _; rw [if_neg (fun q => h q.1)]
  have e : ∀ g', chi (setR σ g a v) g' a = chi σ g' a := fun _ => rfl
  unfold fval; rw [e, e2]
  by_cases h3 : gid ci k = 300
  · rw [if_pos h3, if_pos h3, ← h3, e2]
  · rw [if_neg h3, if_neg h3]
theorem Ex_putI {ft : FieldType} {v : Int32} (hF : FldW (jy J).cls idx g ft (cty σ a)) (hi : isR g = false) (hn : narrow ft (.int v) = .int v) (hfit : fits ft (.int v) = true) (hdg : decode (jc J) pc = .ok (.putfield idx, 3)) (kk : Ex Γ J d (pc + 3) lv rest (setI σ g a v) bc bs out) : Ex Γ J d pc lv (.int v :: .ref a :: rest) σ bc bs out :=
  Ex_putG (σ' := setI σ g a v) hF hn hfit rfl rfl rfl (setI_o σ g a v) (setI_v hi) setI_n hdg kk
theorem Ex_putR {ft : FieldType} {v : Option Nat} (hF : FldW (jy J).cls idx g ft (cty σ a)) (hi : isR g = true) (h3 : g ≠ 300) (hn : narrow ft (va_rf v) = va_rf v) (hfit : fits ft (va_rf v) = true) (hdg : decode (jc J) pc = .ok (.putfield idx, 3)) (kk : Ex Γ J d (pc + 3) lv rest (setR σ g a v) bc bs out) : Ex Γ J d pc lv (va_rf v :: .ref a :: rest) σ bc bs out :=
  Ex_putG (σ' := setR σ g a v) hF hn hfit rfl rfl rfl (setR_o σ g a v) (setR_v hi h3) setR_n hdg kk
theorem Ex_putFI {ft : FieldType} {v : Int32} (hF : FldF (jy J).cls idx g ft (cty σ a)) (hin : (jy J).name = "<init>") (hi : isR g = false) (hn : narrow ft (.int v) = .int v) (hfit : fits ft (.int v) = true) (hdg : decode (jc J) pc = .ok (.putfield idx, 3)) (kk : Ex Γ J d (pc + 3) lv rest (setI σ g a v) bc bs out) : Ex Γ J d pc lv (.int v :: .ref a :: rest) σ bc bs out :=
  Ex_putFG (σ' := setI σ g a v) hF hin hn hfit rfl rfl rfl (setI_o σ g a v) (setI_v hi) setI_n hdg kk
theorem Ex_putFR {ft : FieldType} {v : Option Nat} (hF : FldF (jy J).cls idx g ft (cty σ a)) (hin : (jy J).name = "<init>") (hi : isR g = true) (h3 : g ≠ 300) (hn : narrow ft (va_rf v) = va_rf v) (hfit : fits ft (va_rf v) = true) (hdg : decode (jc J) pc = .ok (.putfield idx, 3)) (kk : Ex Γ J d (pc + 3) lv rest (setR σ g a v) bc bs out) : Ex Γ J d pc lv (va_rf v :: .ref a :: rest) σ bc bs out :=
  Ex_putFG (σ' := setR σ g a v) hF hin hn hfit rfl rfl rfl (setR_o σ g a v) (setR_v hi h3) setR_n hdg kk
theorem Ex_putFE {ft : FieldType} {v : Nat} (hF : FldF (jy J).cls idx 300 ft (cty σ a)) (hin : (jy J).name = "<init>") (hn : narrow ft (.ref (gO Γ v)) = .ref (gO Γ v)) (hfit : fits ft (.ref (gO Γ v)) = true) (hdg : decode (jc J) pc = .ok (.putfield idx, 3)) (kk : Ex Γ J d (pc + 3) lv rest (setR σ 300 a (some v)) bc bs out) : Ex Γ J d pc lv (.ref (gO Γ v) :: .ref a :: rest) σ bc bs out :=
  Ex_putFG (σ' := setR σ 300 a (some v)) hF hin hn hfit rfl rfl rfl (setR_o σ 300 a (some v)) (fun ci k h => setE_v ci k h) setR_n hdg kk
end HX
