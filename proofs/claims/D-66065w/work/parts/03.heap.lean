set_option maxRecDepth 100000
/-! the world: its classes by number, the numbers of fields; tag of an object: its class number + 1; arrays: 50 int, 51 byte, 52 boolean, 53 Object, 54 long -/
abbrev cls_ : List vw_C := [(RX1, TX1, 7), (RX2, TX2, 7), (RX8, TX8, 6), (RX9, TX9, 3), (RX4, TX4, 23), (RX5, TX5, 5), (RX6, TX6, 15), (RX10, TX10, 11), (RX11, TX11, 4), (RJ2, TJ2, 3), (RJ6, TJ6, 0), (RJ20, TJ20, 0), (RJ21, TJ21, 0), (RX7, TX7, 77)]
def refG : List Nat := [0, 2, 3, 4, 5, 6, 100, 104, 105, 106, 200, 201, 202, 203, 204, 300, 406, 407, 411, 412, 416, 417, 419, 420, 421, 422, 500, 501, 606, 607, 608, 609, 610, 611, 700, 710, 901, 1000, 1001, 1301, 1309, 1310, 1311, 1312, 1314, 1315, 1316, 1318, 1319, 1324, 1326, 1330, 1331, 1332, 1333, 1334, 1335, 1336, 1337, 1338, 1339, 1340, 1341, 1342, 1343, 1344, 1345, 1346, 1354, 1355, 1356, 1357, 1358, 1359, 1360, 1361, 1362, 1363, 1365, 1367, 1373, 1374, 1375, 1376]
def isR (g : Nat) : Bool := refG.contains g
def gid (ci k : Nat) : Nat := if (ci = 4 ∨ ci = 6) ∧ k < 6 then 1000 + k else 100 * ci + k
/-- a state of the world: tags, lengths, int fields, reference fields, int arrays, reference arrays, the heap's size -/
def CS : Type := (Nat → Nat) × (Nat → Nat) × (Nat → Nat → Int32) × (Nat → Nat → Option Nat) × (Nat → Nat → Int32) × (Nat → Nat → Option Nat) × Nat
def mkC (ty ln : Nat → Nat) (hi : Nat → Nat → Int32) (hr : Nat → Nat → Option Nat) (ai : Nat → Nat → Int32) (ar : Nat → Nat → Option Nat) (sz : Nat) : CS := (ty, ln, hi, hr, ai, ar, sz)
def cty (σ : CS) : Nat → Nat := σ.1
def cln (σ : CS) : Nat → Nat := σ.2.1
def chi (σ : CS) : Nat → Nat → Int32 := σ.2.2.1
def chr (σ : CS) : Nat → Nat → Option Nat := σ.2.2.2.1
def cai (σ : CS) : Nat → Nat → Int32 := σ.2.2.2.2.1
def car (σ : CS) : Nat → Nat → Option Nat := σ.2.2.2.2.2.1
def csz (σ : CS) : Nat := σ.2.2.2.2.2.2
def u2 {α : Type} (f : Nat → Nat → α) (i j : Nat) (v : α) : Nat → Nat → α := fun i' j' => if i' = i ∧ j' = j then v else f i' j'
def u1 {α : Type} (f : Nat → α) (i : Nat) (v : α) : Nat → α := fun i' => if i' = i then v else f i'
/-- writes -/
def setI (σ : CS) (g a : Nat) (v : Int32) : CS := mkC (cty σ) (cln σ) (u2 (chi σ) g a v) (chr σ) (cai σ) (car σ) (csz σ)
def setR (σ : CS) (g a : Nat) (v : Option Nat) : CS := mkC (cty σ) (cln σ) (chi σ) (u2 (chr σ) g a v) (cai σ) (car σ) (csz σ)
def putI (σ : CS) (a j : Nat) (v : Int32) : CS := mkC (cty σ) (cln σ) (chi σ) (chr σ) (u2 (cai σ) a j v) (car σ) (csz σ)
def putR (σ : CS) (a j : Nat) (v : Option Nat) : CS := mkC (cty σ) (cln σ) (chi σ) (chr σ) (cai σ) (u2 (car σ) a j v) (csz σ)
/-- a new object, a new array: at the heap's end -/
def newO (σ : CS) (t : Nat) : CS := mkC (u1 (cty σ) (csz σ) t) (cln σ) (fun g a => if a = csz σ then 0 else chi σ g a) (fun g a => if a = csz σ then none else chr σ g a) (cai σ) (car σ) (csz σ + 1)
def newA (σ : CS) (t n : Nat) : CS := mkC (u1 (cty σ) (csz σ) t) (u1 (cln σ) (csz σ) n) (chi σ) (chr σ) (u1 (cai σ) (csz σ) (fun _ => 0)) (u1 (car σ) (csz σ) (fun _ => none)) (csz σ + 1)
/-- cells made that nobody looks at -/
def skipC (σ : CS) (n : Nat) : CS := mkC (cty σ) (cln σ) (chi σ) (chr σ) (cai σ) (car σ) (csz σ + n)
/-- what stands fast in a run: launch, classes, array classes, the first heap, the enum's constants -/
def GT : Type := Launch × va_G × (Nat → ClassId) × Heap × (Nat → Nat)
def gl (Γ : GT) : Launch := Γ.1
def gD (Γ : GT) : va_G := Γ.2.1
def gA (Γ : GT) : Nat → ClassId := Γ.2.2.1
def gH (Γ : GT) : Heap := Γ.2.2.2.1
def gO (Γ : GT) : Nat → Nat := Γ.2.2.2.2
def tys_ (Γ : GT) : List (ClassId × FieldType) := [(gA Γ 0, .int), (gA Γ 1, .byte), (gA Γ 2, .boolean), (gA Γ 3, .object "java/lang/Object"), (gA Γ 4, .long)]
/-- field 300 (an instruction's op) holds the number of an enum's constant -/
def fval (Γ : GT) (σ : CS) (ci a k : Nat) : Value := if gid ci k = 300 then va_rf ((chr σ 300 a).map (gO Γ)) else if isR (gid ci k) then va_rf (chr σ (gid ci k) a) else .int (chi σ (gid ci k) a)
/-- what the heap holds at a -/
def pic (Γ : GT) (σ : CS) (a : Nat) (H : Heap) : Prop :=
  (∀ (ci : Nat) (q : vw_C), cty σ a = ci + 1 → cls_[ci]? = some q → t_OB a ((gD Γ).1 ci) q.2.2 ((gD Γ).2 ci) H (fval Γ σ ci a)) ∧
  (cty σ a = 50 → H[a]? = some (vp_cell (gA Γ 0) (cln σ a, .inl (cai σ a)))) ∧
  (cty σ a = 51 → H[a]? = some (vp_cell (gA Γ 1) (cln σ a, .inl (cai σ a)))) ∧
  (cty σ a = 52 → H[a]? = some (vp_cell (gA Γ 2) (cln σ a, .inl (cai σ a)))) ∧
  (cty σ a = 53 → H[a]? = some (vp_cell (gA Γ 3) (cln σ a, .inr (.inr (.inr (.inr (car σ a)))))))
def Rep (Γ : GT) (σ : CS) (H : Heap) : Prop :=
  H.size = csz σ ∧ (gH Γ).size ≤ csz σ ∧ (∀ q : Nat, q < (gH Γ).size → H[q]? = (gH Γ)[q]?) ∧ (∀ a, pic Γ σ a H) ∧ ∀ a, cty σ a ≠ 0 → (gH Γ).size ≤ a ∧ a < csz σ
/-- words that hold all through a run though they don't ride in the lists -/
def nestW : Cond → Bool
  | .fieldLinkNest .. => true
  | .methodLinkNest .. => true
  | .declares _ => true
  | .castable .. => true
  | .privateMethod _ => true
  | _ => false
def KW (U : State) : Prop := ∀ w ∈ lw_tbl, nestW w = true → va_Nw w U
theorem Nw_warmP {x : MethodName} {s U : State} (hW : s.WarmedH U.vm) (hZ : va_Nw (.privateMethod x) s) : va_Nw (.privateMethod x) U := va_tabs rfl (rfl : (s.setVm U.vm).vm = U.vm) (by rw [Cond.privateMethod_setVm hW.alike]; exact hZ)
theorem KW.warm {s U : State} (h : KW s) (hW : s.WarmedH U.vm) : KW U := by
  intro w hw hn
  have h1 := h w hw hn
  cases w <;> first | exact va_Nw.warmF hW h1 | exact va_Nw.warmM hW h1 | exact va_Nw.warmD hW h1 | exact va_Nw.warmC hW h1 | exact Nw_warmP hW h1 | exact absurd hn Bool.false_ne_true
theorem KW.same {s U : State} (h : KW s) (hv : s.vm = U.vm) : KW U := by
  intro w hw hn
  have h1 := h w hw hn
  refine va_Nw.same ?_ hv h1
  cases w <;> first | rfl | exact absurd hn Bool.false_ne_true
def KN (Γ : GT) (U : State) : Prop := va_K (gD Γ) cls_ (tys_ Γ) U
/-- constants: the enum's, Throwable's statics, the class object of Object[] -/
def opN : List String := ["NUMBER", "VARIABLE", "PLUS", "MINUS", "TIMES", "LESS", "EQUAL", "NEGATE", "READ", "SET", "WRITE", "ADD", "PRINT", "CALL", "FORK", "JOIN", "TEST", "GO", "END"]
def gB (Γ : GT) : Nat → Prop := fun q => (gH Γ).size ≤ q
/-- a static of Throwable: laid, null or a reference, in the first heap -/
def LSt (Γ : GT) (n d : String) (U : State) : Prop := ∃ (c i a : Nat) (k : Class) (f : Field) (cell : Cell) (v : Value), U.vm.findClass "java/lang/Throwable" = some c ∧ U.fieldFound? "java/lang/Throwable" n d = some (c, k, i, f) ∧ f.isStatic = true ∧ k.statics = some a ∧ (gH Γ)[a]? = some cell ∧ cell.vm.isStatics = true ∧ cell.cls = c ∧ f.slot < cell.slots.size ∧ k.staticTypes[f.slot]? = some f.type ∧ cell.slots[f.slot]? = some v ∧ v.isRef = true
theorem LSt.moved {Γ : GT} {n d : String} {u U : State} (hvm : u.vm.Alike U.vm) (h : LSt Γ n d u) : LSt Γ n d U := by
  obtain ⟨c, i, a, k, f, cell, v, hc, hi, hst, ha, hcell, hs, hcls, hlt, hty, hv, hr⟩ := h
  obtain ⟨k', hi', hek⟩ := State.fieldFound?_setVm (s := u) hvm hi
  exact ⟨c, i, a, k', f, cell, v, by rw [hvm.findClass]; exact hc, hi', hst, by rw [hek]; exact ha, hcell, hs, hcls, hlt, by rw [hek]; exact hty, hv, hr⟩
def KZ (Γ : GT) (U : State) : Prop :=
  (∀ (i : Nat) (n : String), opN[i]? = some n → va_Z "ForkJoinDesk$Op" n "LForkJoinDesk$Op;" (.ref (gO Γ i)) (gB Γ) U (gH Γ) ∧ va_O "ForkJoinDesk$Op" (gO Γ i) (gB Γ) U (gH Γ) ∧ va_OF "java/lang/Enum" "ordinal" "I" (.int (nI i)) (gO Γ i) (gB Γ) U (gH Γ)) ∧
  (∀ i j, i < 19 → j < 19 → gO Γ i = gO Γ j → i = j) ∧
  (LSt Γ "UNASSIGNED_STACK" "[Ljava/lang/StackTraceElement;" U ∧ LSt Γ "SUPPRESSED_SENTINEL" "Ljava/util/List;" U) ∧
  va_Mi "[Ljava/lang/Object;" (gO Γ 100) U ∧ va_Dc U ∧ va_AO "java/lang/Object" U ∧ (gl Γ).stackTraces = false
theorem KZ.moved {Γ : GT} {u U : State} (hvm : u.vm.Alike U.vm) (h : KZ Γ u) : KZ Γ U := by
  obtain ⟨h1, h2, ⟨h3, h4⟩, h5, h6, h7, h8⟩ := h
  exact ⟨fun i n hn => ⟨(h1 i n hn).1.moved hvm, (h1 i n hn).2.1.moved hvm, (h1 i n hn).2.2.moved hvm⟩, h2, ⟨h3.moved hvm, h4.moved hvm⟩, h5.moved hvm, h6.moved hvm, h7.moved hvm, h8⟩
/-- a method: its name, code, locals, answer -/
def JT : Type := MethodName × ByteArray × Nat × Option FieldType
def jy (J : JT) : MethodName := J.1
def jc (J : JT) : ByteArray := J.2.1
def jn (J : JT) : Nat := J.2.2.1
def jr (J : JT) : Option FieldType := J.2.2.2
def mkJ (y : MethodName) (c : ByteArray) (n : Nat) (r : Option FieldType) : JT := (y, c, n, r)
def Rm (d bc bs : Nat) : Room := { frames := d, cells := bc, slots := bs, locals := 40 * d }
def FrameX (first t : State) (L : List Loc) (k n : Nat) : Prop := first.WarmedH t.vm ∧ first.sameButNew ({ t with vm := first.vm } : State) L k n
def MQX (below : List Frame) (Qc : Array Value → State → Outcome → State → Prop) (a : Array Value) (s : State) (mc ms : Nat) (free : Addr → Prop) : State → Prop := fun t =>
  ∃ o, t.status = .running ∧ Ended t below o ∧ Qc a s o t ∧ ∃ L, FrameX s t L mc ms ∧ ∀ q ∈ L, free q.base
def Adom (σ : CS) : Nat → Prop := fun q => cty σ q ≠ 0 ∨ csz σ ≤ q
def Pcx (Γ : GT) (σ : CS) (av : List Value) : Array Value → State → Prop := fun v U => v = av.toArray ∧ Rep Γ σ U.heap ∧ KN Γ U ∧ KW U ∧ KZ Γ U
def Qcx (Γ : GT) (A : Nat → Prop) (out : Outcome × CS) : Array Value → State → Outcome → State → Prop := fun _ st o t =>
  o = out.1 ∧ Rep Γ out.2 t.heap ∧ va_F A st t ∧ ∀ a, cty out.2 a ≠ 0 → A a
/-- A METHOD's CONTRACT: called with av in the world σ, in d frames, with room for bc cells of bs slots, it ends just so -/
def CM (Γ : GT) (J : JT) (d : Nat) (av : List Value) (σ : CS) (bc bs : Nat) (out : Outcome × CS) : Prop :=
  MetFree (gl Γ) (jy J) (headSpec (ws_ (jy J) (jc J) (jn J) (jr J)) (Rm d bc bs)) (Pcx Γ σ av) (fun _ _ _ _ _ => True)
    (fun a st o t => Qcx Γ (Adom σ) out a st o t ∧ ∃ L, FrameX st t L bc bs ∧ ∀ q ∈ L, Adom σ q.base)
def Ctx (Γ : GT) (J : JT) (p : Program) (s : State) (m : MethodId) (args : Array Value) (meth : Method) (c : Code) : Prop :=
  p.tables.exec = Jvm.exec ∧ c.code = jc J ∧ meth.sig.returnType = jr J ∧ meth.locks = false ∧ c.maxLocals = jn J ∧ s.vm.findClass (jy J).cls = some m.cls ∧ (∀ w ∈ lw_all, w.before args s = true) ∧ KW s ∧ KN Γ s ∧ meth.name = (jy J).name ∧ (∀ x ∈ c.exceptionTable.toList, False) ∧ KZ Γ s ∧ ∀ q : Nat, q < (gH Γ).size → s.heap[q]? = (gH Γ)[q]?
def In (Γ : GT) (A : Nat → Prop) (σ : CS) (s : State) (H : Heap) (locs : List Loc) : Prop :=
  Rep Γ σ H ∧ va_S A s.heap H locs ∧ (∀ a, cty σ a ≠ 0 → A a) ∧ ∀ q : Nat, s.heap.size ≤ q → A q
/-- THE JUDGEMENT: from pc, with these locals, this stack, this world, in d frames, with room for bc cells of bs slots, the method ends just so -/
def Ex (Γ : GT) (J : JT) (d pc : Nat) (lv : List (Nat × Value)) (st : List Value) (σ : CS) (bc bs : Nat) (out : Outcome × CS) : Prop :=
  ∀ (A : Nat → Prop) (p : Program) (e : Env) (s : State) (m : MethodId) (args : Array Value) (below : List Frame) (meth : Method) (c : Code) (H : Heap) (locs : List Loc) (cells slots mc ms : Nat) (ls : Array Slot),
    Ctx Γ J p s m args meth c → lv_has ls (jn J) lv → In Γ A σ s H locs → cells + bc ≤ mc → slots + bs ≤ ms →
    W p (gl Γ) e (Rm d mc ms) s m args below meth c H locs cells slots (MQX below (Qcx Γ A out) args s mc ms A) (F0 m pc ls st)
/-- a class: its number, its table in the lists -/
def ClsOK (ci : Nat) (q : vw_C) (ty : Nat → FieldType) : Prop := cls_[ci]? = some q ∧ (∀ w ∈ u_ws q.1 q.2.1 q.2.2, w ∈ lw_all) ∧ (∀ k, k < q.2.2 → parseFieldDescriptor (q.2.1 k).2.2.1 = some (ty k)) ∧ ∀ a, a < q.2.2 → ∀ b, b < q.2.2 → a ≠ b → (q.2.1 a).2.1 ≠ (q.2.1 b).2.1

theorem K_X1 : ClsOK 0 (RX1, TX1, 7) tyX1 := ⟨rfl, in_X1, tyX1_ok, nmX1⟩
theorem K_X2 : ClsOK 1 (RX2, TX2, 7) tyX2 := ⟨rfl, in_X2, tyX2_ok, nmX2⟩
theorem K_X8 : ClsOK 2 (RX8, TX8, 6) tyX8 := ⟨rfl, in_X8, tyX8_ok, nmX8⟩
theorem K_X9 : ClsOK 3 (RX9, TX9, 3) tyX9 := ⟨rfl, in_X9, tyX9_ok, nmX9⟩
theorem K_X4 : ClsOK 4 (RX4, TX4, 23) tyX4 := ⟨rfl, in_X4, tyX4_ok, nmX4⟩
theorem K_X5 : ClsOK 5 (RX5, TX5, 5) tyX5 := ⟨rfl, in_X5, tyX5_ok, nmX5⟩
theorem K_X6 : ClsOK 6 (RX6, TX6, 15) tyX6 := ⟨rfl, in_X6, tyX6_ok, nmX6⟩
theorem K_X10 : ClsOK 7 (RX10, TX10, 11) tyX10 := ⟨rfl, in_X10, tyX10_ok, nmX10⟩
theorem K_X11 : ClsOK 8 (RX11, TX11, 4) tyX11 := ⟨rfl, in_X11, tyX11_ok, nmX11⟩
theorem K_J2 : ClsOK 9 (RJ2, TJ2, 3) tyJ2 := ⟨rfl, in_J2, tyJ2_ok, nmJ2⟩
theorem K_J6 : ClsOK 10 (RJ6, TJ6, 0) tyJ6 := ⟨rfl, fun w h => absurd h (by simp [u_ws]), fun k h => absurd h (Nat.not_lt_zero _), fun a h => absurd h (Nat.not_lt_zero _)⟩
theorem K_J20 : ClsOK 11 (RJ20, TJ20, 0) tyJ20 := ⟨rfl, fun w h => absurd h (by simp [u_ws]), fun k h => absurd h (Nat.not_lt_zero _), fun a h => absurd h (Nat.not_lt_zero _)⟩
theorem K_J21 : ClsOK 12 (RJ21, TJ21, 0) tyJ21 := ⟨rfl, fun w h => absurd h (by simp [u_ws]), fun k h => absurd h (Nat.not_lt_zero _), fun a h => absurd h (Nat.not_lt_zero _)⟩
theorem K_X7 : ClsOK 13 (RX7, TX7, 77) tyX7 := ⟨rfl, in_X7, tyX7_ok, nmX7⟩
