set_option maxRecDepth 100000
section AX
variable {Γ : GT} {J : JT} {d pc : Nat} {lv : List (Nat × Value)} {rest : List Value} {σ : CS} {bc bs : Nat} {out : Outcome × CS} {a idx : Nat}
/-- an index within, as a Bool -/
def ib (i : Int32) (n : Nat) : Bool := decide (¬ (i < 0 ∨ n ≤ i.toNatClampNeg))
theorem ib_in {i : Int32} {n : Nat} (h : ib i n = true) : vp_in i n := of_decide_eq_true (p := ¬ (i < 0 ∨ n ≤ i.toNatClampNeg)) h
theorem Ex_iaload {i : Int32} (ht : cty σ a = 50) (hin : ib i (cln σ a) = true) (hdg : decode (jc J) pc = .ok (.iaload, 1)) (kk : Ex Γ J d (pc + 1) lv (.int (cai σ a i.toNatClampNeg) :: rest) σ bc bs out) : Ex Γ J d pc lv (.int i :: .ref a :: rest) σ bc bs out :=
  fun A p e s m args below meth c H locs cells slots mc ms ls C hl hI h1 h2 => va_iald (ws := [(a, .inl (gA Γ 0, cln σ a, .inl (cai σ a)))]) C.1 C.2.1 C.kn (fun k q hq => by cases k with | zero => cases hq; exact (hI.1.2.2.2.1 a).2.1 ht | succ k => cases hq) 0 0 rfl rfl (ib_in hin) hdg (kk A p e s m args below meth c H locs cells slots mc ms ls C hl hI h1 h2)
theorem Ex_baload {i : Int32} (ht : cty σ a = 51) (hin : ib i (cln σ a) = true) (hdg : decode (jc J) pc = .ok (.baload, 1)) (kk : Ex Γ J d (pc + 1) lv (.int (cai σ a i.toNatClampNeg) :: rest) σ bc bs out) : Ex Γ J d pc lv (.int i :: .ref a :: rest) σ bc bs out :=
  fun A p e s m args below meth c H locs cells slots mc ms ls C hl hI h1 h2 => va_bald (ws := [(a, .inl (gA Γ 1, cln σ a, .inl (cai σ a)))]) C.1 C.2.1 C.kn (fun k q hq => by cases k with | zero => cases hq; exact (hI.1.2.2.2.1 a).2.2.1 ht | succ k => cases hq) 0 1 rfl rfl (ib_in hin) hdg (kk A p e s m args below meth c H locs cells slots mc ms ls C hl hI h1 h2)
theorem Ex_zaload {i : Int32} (ht : cty σ a = 52) (hin : ib i (cln σ a) = true) (hdg : decode (jc J) pc = .ok (.baload, 1)) (kk : Ex Γ J d (pc + 1) lv (.int (cai σ a i.toNatClampNeg) :: rest) σ bc bs out) : Ex Γ J d pc lv (.int i :: .ref a :: rest) σ bc bs out :=
  fun A p e s m args below meth c H locs cells slots mc ms ls C hl hI h1 h2 => va_zald (ws := [(a, .inl (gA Γ 2, cln σ a, .inl (cai σ a)))]) C.1 C.2.1 C.kn (fun k q hq => by cases k with | zero => cases hq; exact (hI.1.2.2.2.1 a).2.2.2.1 ht | succ k => cases hq) 0 2 rfl rfl (ib_in hin) hdg (kk A p e s m args below meth c H locs cells slots mc ms ls C hl hI h1 h2)
theorem Ex_aaload {i : Int32} (ht : cty σ a = 53) (hin : ib i (cln σ a) = true) (hdg : decode (jc J) pc = .ok (.aaload, 1)) (kk : Ex Γ J d (pc + 1) lv (va_rf (car σ a i.toNatClampNeg) :: rest) σ bc bs out) : Ex Γ J d pc lv (.int i :: .ref a :: rest) σ bc bs out :=
  fun A p e s m args below meth c H locs cells slots mc ms ls C hl hI h1 h2 => va_aldq (ws := [(a, .inl (gA Γ 3, cln σ a, .inr (.inr (.inr (.inr (car σ a))))))]) C.1 C.2.1 C.kn (fun k q hq => by cases k with | zero => cases hq; exact (hI.1.2.2.2.1 a).2.2.2.2 ht | succ k => cases hq) 0 3 rfl rfl (ib_in hin) hdg (kk A p e s m args below meth c H locs cells slots mc ms ls C hl hI h1 h2)
theorem Ex_alenR (ht : cty σ a = 53) (hdg : decode (jc J) pc = .ok (.arraylength, 1)) (kk : Ex Γ J d (pc + 1) lv (.int (Int32.ofNat (cln σ a)) :: rest) σ bc bs out) : Ex Γ J d pc lv (.ref a :: rest) σ bc bs out :=
  fun A p e s m args below meth c H locs cells slots mc ms ls C hl hI h1 h2 => va_alen (ws := [(a, .inl (gA Γ 3, cln σ a, .inr (.inr (.inr (.inr (car σ a))))))]) C.1 C.2.1 C.kn (fun k q hq => by cases k with | zero => cases hq; exact (hI.1.2.2.2.1 a).2.2.2.2 ht | succ k => cases hq) 0 3 rfl rfl rfl hdg (kk A p e s m args below meth c H locs cells slots mc ms ls C hl hI h1 h2)
/-- an array's picture behind a write -/
theorem putI_o (σ : CS) (a j : Nat) (v : Int32) : ∀ b, b ≠ a → (∀ g', chi (putI σ a j v) g' b = chi σ g' b) ∧ (∀ g', chr (putI σ a j v) g' b = chr σ g' b) ∧ cai (putI σ a j v) b = cai σ b ∧ car (putI σ a j v) b = car σ b :=
  fun b hb => ⟨fun _ => rfl, fun _ => rfl, by funext j'; show (if b = a ∧ j' = j then v else cai σ b j') = _; rw [if_neg (fun h => hb h.1)], rfl⟩
theorem putR_o (σ : CS) (a j : Nat) (v : Option Nat) : ∀ b, b ≠ a → (∀ g', chi (putR σ a j v) g' b = chi σ g' b) ∧ (∀ g', chr (putR σ a j v) g' b = chr σ g' b) ∧ cai (putR σ a j v) b = cai σ b ∧ car (putR σ a j v) b = car σ b :=
  fun b hb => ⟨fun _ => rfl, fun _ => rfl, rfl, by funext j'; show (if b = a ∧ j' = j then v else car σ b j') = _; rw [if_neg (fun h => hb h.1)]⟩
theorem cai_put (σ : CS) (a j : Nat) (v : Int32) : (fun q => Value.int (cai (putI σ a j v) a q)) = updV (fun q => Value.int (cai σ a q)) j (.int v) := by
  funext q
  show Value.int (if a = a ∧ q = j then v else cai σ a q) = _
  by_cases hq : q = j
  · subst hq; simp [updV]
  · simp [updV, hq]
theorem car_put (σ : CS) (a j : Nat) (v : Option Nat) : (fun q => va_rf (car (putR σ a j v) a q)) = updV (fun q => va_rf (car σ a q)) j (va_rf v) := by
  funext q
  show va_rf (if a = a ∧ q = j then v else car σ a q) = _
  by_cases hq : q = j
  · subst hq; simp [updV]
  · simp [updV, hq]
theorem Ex_iastore {i x : Int32} (ht : cty σ a = 50) (hin : ib i (cln σ a) = true) (hdg : decode (jc J) pc = .ok (.iastore, 1)) (kk : Ex Γ J d (pc + 1) lv rest (putI σ a i.toNatClampNeg x) bc bs out) : Ex Γ J d pc lv (.int x :: .int i :: .ref a :: rest) σ bc bs out := by
  intro A p e s m args below meth c H locs cells slots mc ms ls C hl hI h1 h2
  refine W.iast C.1 C.2.1 ((hI.1.2.2.2.1 a).2.1 ht) ((C.kn.2 0 _ rfl).1 (cln σ a) (fun j => .int (cai σ a j))) (fun q => by cases q) (by show ¬ (i < 0 ∨ (arrV _ _ _).slots.size ≤ _); rw [arrV_size]; exact ib_in hin) rfl rfl hdg fun H1 x1 z oq => ?_
  refine kk A p e s m args below meth c H1 _ cells slots mc ms ls C hl (hI.upd (σ' := putI σ a i.toNatClampNeg x) (by omega) z oq rfl rfl rfl (putI_o σ a _ x) ?_) h1 h2
  have ht' : cty (putI σ a i.toNatClampNeg x) a = 50 := ht
  refine ⟨fun ci q h hc => by have := cls_lt hc; omega, fun _ => ?_, fun h => by omega, fun h => by omega, fun h => by omega⟩
  rw [x1, vp_cell_i, vp_cell_i, arrV_store, cai_put]
  rfl
theorem Ex_bastore {i x : Int32} (ht : cty σ a = 51) (hin : ib i (cln σ a) = true) (hdg : decode (jc J) pc = .ok (.bastore, 1)) (kk : Ex Γ J d (pc + 1) lv rest (putI σ a i.toNatClampNeg (vp_nar .byte x)) bc bs out) : Ex Γ J d pc lv (.int x :: .int i :: .ref a :: rest) σ bc bs out := by
  intro A p e s m args below meth c H locs cells slots mc ms ls C hl hI h1 h2
  refine W.bast C.1 C.2.1 ((hI.1.2.2.2.1 a).2.2.1 ht) ((C.kn.2 1 _ rfl).1 (cln σ a) (fun j => .int (cai σ a j))) (fun q => by cases q) (by show ¬ (i < 0 ∨ (arrV _ _ _).slots.size ≤ _); rw [arrV_size]; exact ib_in hin) rfl rfl hdg fun H1 x1 z oq => ?_
  refine kk A p e s m args below meth c H1 _ cells slots mc ms ls C hl (hI.upd (σ' := putI σ a i.toNatClampNeg (vp_nar .byte x)) (by omega) z oq rfl rfl rfl (putI_o σ a _ _) ?_) h1 h2
  have ht' : cty (putI σ a i.toNatClampNeg (vp_nar .byte x)) a = 51 := ht
  refine ⟨fun ci q h hc => by have := cls_lt hc; omega, fun h => by omega, fun _ => ?_, fun h => by omega, fun h => by omega⟩
  rw [x1, vp_cell_i, vp_cell_i, arrV_store, cai_put]
  rfl
theorem Ex_zastore {i x : Int32} (ht : cty σ a = 52) (hin : ib i (cln σ a) = true) (hdg : decode (jc J) pc = .ok (.bastore, 1)) (kk : Ex Γ J d (pc + 1) lv rest (putI σ a i.toNatClampNeg (vp_nar .boolean x)) bc bs out) : Ex Γ J d pc lv (.int x :: .int i :: .ref a :: rest) σ bc bs out := by
  intro A p e s m args below meth c H locs cells slots mc ms ls C hl hI h1 h2
  refine W.zast C.1 C.2.1 ((hI.1.2.2.2.1 a).2.2.2.1 ht) ((C.kn.2 2 _ rfl).1 (cln σ a) (fun j => .int (cai σ a j))) (fun q => by cases q) (by show ¬ (i < 0 ∨ (arrV _ _ _).slots.size ≤ _); rw [arrV_size]; exact ib_in hin) rfl rfl hdg fun H1 x1 z oq => ?_
  refine kk A p e s m args below meth c H1 _ cells slots mc ms ls C hl (hI.upd (σ' := putI σ a i.toNatClampNeg (vp_nar .boolean x)) (by omega) z oq rfl rfl rfl (putI_o σ a _ _) ?_) h1 h2
  have ht' : cty (putI σ a i.toNatClampNeg (vp_nar .boolean x)) a = 52 := ht
  refine ⟨fun ci q h hc => by have := cls_lt hc; omega, fun h => by omega, fun h => by omega, fun _ => ?_, fun h => by omega⟩
  rw [x1, vp_cell_i, vp_cell_i, arrV_store, cai_put]
  rfl
/-- a reference to an object of the world is put into an array of Objects -/
theorem Ex_aastore {i : Int32} {v : Nat} {r : vw_C} {ci : Nat} (ht : cty σ a = 53) (hv : cty σ v = ci + 1) (hc : cls_[ci]? = some r) (hca : Cond.castable r.1 "java/lang/Object" ∈ lw_tbl) (hin : ib i (cln σ a) = true) (hdg : decode (jc J) pc = .ok (.aastore, 1)) (kk : Ex Γ J d (pc + 1) lv rest (putR σ a i.toNatClampNeg (some v)) bc bs out) : Ex Γ J d pc lv (.ref v :: .int i :: .ref a :: rest) σ bc bs out := by
  intro A p e s m args below meth c H locs cells slots mc ms ls C hl hI h1 h2
  have hvi := ib_in hin
  have hlt : i.toNatClampNeg < cln σ a := Nat.not_le.mp fun q => hvi (Or.inr q)
  have h0 : ¬ i < 0 := fun q => hvi (Or.inl q)
  obtain ⟨cellV, g1, g2, g3, -⟩ := (hI.1.2.2.2.1 v).1 ci r hv hc
  have hcls := (C.kn.1 ci r hc).2
  obtain ⟨kA, comp, k1, k2, k3, -⟩ := (C.kn.2 3 _ rfl).2
  obtain ⟨kE, hkE, -⟩ := Vm.findClass_spec k3
  obtain ⟨c0, t1, f1, f2, f3⟩ := Cond.castable_spec (va_Nw.use (A := args) rfl (C.kw _ hca rfl))
  cases hcls.1.symm.trans f1
  cases k3.symm.trans f2
  obtain ⟨kC, hkC, -⟩ := hcls.2
  refine W.aast C.1 C.2.1 ((hI.1.2.2.2.1 a).2.2.2.2 ht) (fun q h => by cases h) (fun h => by cases h) k1 k2 rfl hkE ⟨h0, by show _ < (arrV _ _ _).slots.size; rw [arrV_size]; exact hlt⟩ g1 (fun q h => by rw [g3] at h; cases h) (by rw [g2]; exact hkC) (by rw [g2]; exact f3) rfl rfl hdg fun H1 x1 z oq => ?_
  refine kk A p e s m args below meth c H1 _ cells slots mc ms ls C hl (hI.upd (σ' := putR σ a i.toNatClampNeg (some v)) (by omega) z oq rfl rfl rfl (putR_o σ a _ _) ?_) h1 h2
  have ht' : cty (putR σ a i.toNatClampNeg (some v)) a = 53 := ht
  refine ⟨fun ci q h hc => by have := cls_lt hc; omega, fun h => by omega, fun h => by omega, fun h => by omega, fun _ => ?_⟩
  rw [x1, vp_cell_q, vp_cell_q, arrV_store, car_put]
  rfl
/-- a cast of an object of the world to its own class -/
theorem Ex_cast {r : vw_C} {ci : Nat} {nm : String} (hv : cty σ a = ci + 1) (hc : cls_[ci]? = some r) (hca : Cond.castable r.1 nm ∈ lw_tbl) (hl' : Cond.classLink (jy J).cls idx nm ∈ lw_all) (hdg : decode (jc J) pc = .ok (.checkcast idx, 3)) (kk : Ex Γ J d (pc + 3) lv (.ref a :: rest) σ bc bs out) : Ex Γ J d pc lv (.ref a :: rest) σ bc bs out := by
  intro A p e s m args below meth c H locs cells slots mc ms ls C hl hI h1 h2
  obtain ⟨cellV, g1, g2, g3, -⟩ := (hI.1.2.2.2.1 a).1 ci r hv hc
  exact va_castY C.1 C.2.1 C.own (C.ts _ hl') (C.kw _ hca rfl) ⟨cellV, g1, by rw [g3]; rfl, by rw [g2]; exact (C.kn.1 ci r hc).2.1⟩ hdg (kk A p e s m args below meth c H locs cells slots mc ms ls C hl hI h1 h2)
/-- a new array of Objects -/
theorem Ex_newarrR {n : Int32} (hl' : Cond.classLink (jy J).cls idx "java/lang/Object" ∈ lw_all) (hn : ¬ n < 0) (hb : n.toNatClampNeg ≤ 1000000) (hdg : decode (jc J) pc = .ok (.anewarray idx, 3))
    (kk : Ex Γ J d (pc + 3) lv (.ref (csz σ) :: rest) (newA σ 53 n.toNatClampNeg) bc bs out) : Ex Γ J d pc lv (.int n :: rest) σ (bc + 1) (bs + n.toNatClampNeg) out := by
  intro A p e s m args below meth c H locs cells slots mc ms ls C hl hI h1 h2
  refine W.anew C.1 C.2.1 C.own (C.ts _ hl') (va_AO.use C.kz.2.2.2.2.2.1) rfl hdg rfl hn (by omega) (by show cells + 1 ≤ mc; omega) (by show slots + _ ≤ ms; omega) fun cA kA comp f1 f2 f3 f4 => ?_
  generalize hH1 : H.push ({ cls := cA, slots := Array.replicate n.toNatClampNeg .null, vm := .none } : Cell) = H1
  have hsz := hI.1.1
  have z1 : H1.size = csz σ + 1 := by rw [← hH1, Array.size_push, hsz]
  have e1 : H1[csz σ]? = some (arrV cA n.toNatClampNeg (fun _ => .null)) := by rw [← hH1, ← hsz, Array.getElem?_push_size, ← arrV_new]
  have o1 : ∀ q : Nat, q < csz σ → H1[q]? = H[q]? := fun q hq => by rw [← hH1, Array.getElem?_push, if_neg (by omega)]
  refine W.eq (g2 := F0 m (pc + 3) ls (.ref (csz σ) :: rest)) (by rw [← hsz]) ?_
  refine kk A p e s m args below meth c H1 locs (cells + 1) (slots + n.toNatClampNeg) mc ms ls C hl (hI.new (σ' := newA σ 53 n.toNatClampNeg) hsz z1 o1 ?_ ?_ rfl ?_) (by omega) (by omega)
  · show (if csz σ = csz σ then 53 else _) ≠ 0
    rw [if_pos rfl]
    omega
  · intro b hb'
    refine ⟨?_, ?_, fun _ => rfl, fun _ => rfl, ?_, ?_⟩
    · show (if b = csz σ then 53 else _) = _; rw [if_neg hb']
    · show (if b = csz σ then _ else _) = _; rw [if_neg hb']
    · show (if b = csz σ then _ else _) = _; rw [if_neg hb']
    · show (if b = csz σ then _ else _) = _; rw [if_neg hb']
  · have x1 : cty (newA σ 53 n.toNatClampNeg) (csz σ) = 53 := by show (if csz σ = csz σ then 53 else _) = 53; rw [if_pos rfl]
    have x2 : cln (newA σ 53 n.toNatClampNeg) (csz σ) = n.toNatClampNeg := by show (if csz σ = csz σ then _ else _) = _; rw [if_pos rfl]
    have x3 : car (newA σ 53 n.toNatClampNeg) (csz σ) = fun _ => none := by show (if csz σ = csz σ then _ else _) = _; rw [if_pos rfl]
    have hcA : cA = gA Γ 3 := by
      obtain ⟨kA', comp', g1, g2, g3, g4⟩ := (C.kn.2 3 _ rfl).2
      exact Option.some.inj (f1.symm.trans g4)
    refine ⟨fun ci q h hc => by have := cls_lt hc; omega, fun h => by omega, fun h => by omega, fun h => by omega, fun _ => ?_⟩
    rw [x2, x3, e1, vp_cell_q, hcA]
    rfl
theorem Ex_newarr {atype : ArrayType} {n : Int32} {t k : Nat} {ty : FieldType} (hty : newarray.typeOf atype = ty) (hw : Cond.arrayClass ty ∈ lw_all) (hk : (t = 50 ∧ k = 0 ∧ ty = .int) ∨ (t = 51 ∧ k = 1 ∧ ty = .byte) ∨ (t = 52 ∧ k = 2 ∧ ty = .boolean)) (hn : ¬ n < 0) (hb : n.toNatClampNeg ≤ 1000000) (hdg : decode (jc J) pc = .ok (.newarray atype, 2))
    (kk : Ex Γ J d (pc + 2) lv (.ref (csz σ) :: rest) (newA σ t n.toNatClampNeg) bc bs out) : Ex Γ J d pc lv (.int n :: rest) σ (bc + 1) (bs + n.toNatClampNeg) out := by
  intro A p e s m args below meth c H locs cells slots mc ms ls C hl hI h1 h2
  subst hty
  refine va_newaK C.1 C.2.1 (C.ts _ hw) rfl hdg rfl hn rfl (by rcases hk with ⟨-, -, h⟩ | ⟨-, -, h⟩ | ⟨-, -, h⟩ <;> rw [h] <;> simp [componentBytes] <;> omega) (by show cells + 1 ≤ mc; omega) (by show slots + _ ≤ ms; omega) (hI.1.1) fun H1 cA e1 z1 o1 hAr hNm => ?_
  refine kk A p e s m args below meth c H1 locs (cells + 1) (slots + n.toNatClampNeg) mc ms ls C hl (hI.new (σ' := newA σ t n.toNatClampNeg) hI.1.1 z1 o1 ?_ ?_ rfl ?_) (by omega) (by omega)
  · show (if csz σ = csz σ then t else _) ≠ 0
    rw [if_pos rfl]
    omega
  · intro b hb'
    refine ⟨?_, ?_, fun _ => rfl, fun _ => rfl, ?_, ?_⟩
    · show (if b = csz σ then t else _) = _; rw [if_neg hb']
    · show (if b = csz σ then _ else _) = _; rw [if_neg hb']
    · show (if b = csz σ then _ else _) = _; rw [if_neg hb']
    · show (if b = csz σ then _ else _) = _; rw [if_neg hb']
  · have x1 : cty (newA σ t n.toNatClampNeg) (csz σ) = t := by show (if csz σ = csz σ then t else _) = t; rw [if_pos rfl]
    have x2 : cln (newA σ t n.toNatClampNeg) (csz σ) = n.toNatClampNeg := by show (if csz σ = csz σ then _ else _) = _; rw [if_pos rfl]
    have x3 : cai (newA σ t n.toNatClampNeg) (csz σ) = fun _ => 0 := by show (if csz σ = csz σ then _ else _) = _; rw [if_pos rfl]
    have hcA : cA = gA Γ k := by
      have hR := (C.kn.2 k (gA Γ k, newarray.typeOf atype) (by rcases hk with ⟨-, rfl, h⟩ | ⟨-, rfl, h⟩ | ⟨-, rfl, h⟩ <;> rw [h] <;> rfl)).2
      rcases hk with ⟨-, -, h⟩ | ⟨-, -, h⟩ | ⟨-, -, h⟩ <;> rw [h] at hR hNm <;> exact Option.some.inj (hNm.symm.trans hR)
    have x4 : H1[csz σ]? = some (vp_cell (gA Γ k) (n.toNatClampNeg, .inl (fun _ => 0))) := by
      rw [e1, vp_cell_i, hcA]
      rcases hk with ⟨-, -, h⟩ | ⟨-, -, h⟩ | ⟨-, -, h⟩ <;> rw [h] <;> rfl
    refine ⟨fun ci q h hc => by have := cls_lt hc; omega, fun h => ?_, fun h => ?_, fun h => ?_, fun h => by omega⟩ <;> rw [x2, x3, x4]
    · rw [show k = 0 by omega]
    · rw [show k = 1 by omega]
    · rw [show k = 2 by omega]
/-- a new object -/
theorem Ex_new {C : String} {N ci : Nat} {q : vw_C} {ty : Nat → FieldType} (hC : ClsOK ci q ty) (hN : q.2.2 = N ∨ q.2.2 = 0) (hl' : Cond.classLink (jy J).cls idx q.1 ∈ lw_all) (hins : Cond.instantiable q.1 N ∈ lw_all) (hini : Cond.initialized q.1 ∈ lw_all) (hd : ∀ k, k < q.2.2 → defaultValue (ty k) = if isR (gid ci k) then .null else .int 0)
    (hdg : decode (jc J) pc = .ok (.new idx, 3)) (kk : Ex Γ J d (pc + 3) lv (.ref (csz σ) :: rest) (newO σ (ci + 1)) bc bs out) : Ex Γ J d pc lv rest σ (bc + 1) (bs + N) out := by
  intro A p e s m args below meth c H locs cells slots mc ms ls Cx hl hI h1 h2
  have hKn := Cx.kn.1 ci _ hC.1
  refine W.newcK Cx.1 Cx.2.1 Cx.own (Cx.ts _ hl') (Cx.ts _ hins) (Cx.ts _ hini) rfl hdg (by show cells + 1 ≤ mc; omega) (by show slots + _ ≤ ms; omega) hKn.2.1 hI.1.1 fun H1 kC hkC e1 z1 o1 => ?_
  refine kk A p e s m args below meth c H1 locs (cells + 1) (slots + N) mc ms ls Cx hl (hI.new (σ' := newO σ (ci + 1)) hI.1.1 z1 o1 ?_ ?_ rfl ?_) (by omega) (by omega)
  · show (if csz σ = csz σ then ci + 1 else _) ≠ 0
    rw [if_pos rfl]
    omega
  · intro b hb'
    refine ⟨?_, rfl, fun g => ?_, fun g => ?_, rfl, rfl⟩
    · show (if b = csz σ then ci + 1 else _) = _; rw [if_neg hb']
    · show (if b = csz σ then _ else _) = _; rw [if_neg hb']
    · show (if b = csz σ then _ else _) = _; rw [if_neg hb']
  · have x1 : cty (newO σ (ci + 1)) (csz σ) = ci + 1 := by show (if csz σ = csz σ then ci + 1 else _) = _; rw [if_pos rfl]
    have hlt := cls_lt hC.1
    refine ⟨fun ci' q' h hc => ?_, fun h => by omega, fun h => by omega, fun h => by omega, fun h => by omega⟩
    have e : ci' = ci := by omega
    subst e
    cases hC.1.symm.trans hc
    refine (u_born ty Cx.ts hC.2.1 hKn hkC e1 hC.2.2.1).to fun k hk => ?_
    rw [hd k hk]
    unfold fval
    have e1 : ∀ g, chr (newO σ (ci' + 1)) g (csz σ) = none := fun g => if_pos rfl
    have e2 : ∀ g, chi (newO σ (ci' + 1)) g (csz σ) = 0 := fun g => if_pos rfl
    rw [e1, e1, e2]
    by_cases h3 : gid ci' k = 300
    · rw [if_pos h3, h3]; rfl
    · rw [if_neg h3]; rfl
end AX
