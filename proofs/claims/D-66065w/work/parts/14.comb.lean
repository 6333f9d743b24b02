set_option maxRecDepth 100000
/-! what the component's methods compute: an answer, the world behind, cells and slots made; none: out of what is covered -/
abbrev CR (α : Type) : Type := Option (α × CS × Nat × Nat)
def cret {α : Type} (x : α) (σ : CS) : CR α := some (x, σ, 0, 0)
def cbn {α β : Type} (o : CR α) (k : α → CS → CR β) : CR β := match o with
  | none => none
  | some (x, σ, c, n) => match k x σ with
    | none => none
    | some (y, σ', c', n') => some (y, σ', c + c', n + n')
def cal {β : Type} (c n : Nat) (o : CR β) : CR β := match o with
  | none => none
  | some (y, σ, c', n') => some (y, σ, c' + c, n' + n)
def cbt {α β : Type} (o : CR (Nat ⊕ α)) (k : α → CS → CR (Nat ⊕ β)) : CR (Nat ⊕ β) := match o with
  | none => none
  | some (.inl x, σ, c, n) => some (.inl x, σ, c, n)
  | some (.inr x, σ, c, n) => match k x σ with
    | none => none
    | some (y, σ', c', n') => some (y, σ', c + c', n + n')
def drf {β : Type} (q : Option Nat) (k : Nat → Option β) : Option β := match q with
  | none => none
  | some a => k a
def opq {β : Type} (q : Option Nat) (A : Option β) (k : Nat → Option β) : Option β := match q with
  | none => A
  | some a => k a
theorem cbn_some {α β : Type} {o : CR α} {k : α → CS → CR β} {y : β} {σ2 : CS} {c n : Nat} (h : cbn o k = some (y, σ2, c, n)) : ∃ x σ1 c1 n1 c2 n2, o = some (x, σ1, c1, n1) ∧ k x σ1 = some (y, σ2, c2, n2) ∧ c = c1 + c2 ∧ n = n1 + n2 := by
  match o, h with
  | some (x, σ1, c1, n1), h =>
    unfold cbn at h
    cases hk : k x σ1 with
    | none => simp [hk] at h
    | some q =>
      obtain ⟨y', σ', c', n'⟩ := q
      simp [hk] at h
      obtain ⟨rfl, rfl, rfl, rfl⟩ := h
      exact ⟨x, σ1, c1, n1, c', n', rfl, hk, rfl, rfl⟩
theorem cal_some {β : Type} {c n : Nat} {o : CR β} {y : β} {σ2 : CS} {c0 n0 : Nat} (h : cal c n o = some (y, σ2, c0, n0)) : ∃ c1 n1, o = some (y, σ2, c1, n1) ∧ c0 = c1 + c ∧ n0 = n1 + n := by
  match o, h with
  | some (y', σ', c', n'), h =>
    unfold cal at h
    simp at h
    obtain ⟨rfl, rfl, rfl, rfl⟩ := h
    exact ⟨c', n', rfl, rfl, rfl⟩
theorem cbt_some {α β : Type} {o : CR (Nat ⊕ α)} {k : α → CS → CR (Nat ⊕ β)} {y : Nat ⊕ β} {σ2 : CS} {c n : Nat} (h : cbt o k = some (y, σ2, c, n)) :
    (∃ x, o = some (.inl x, σ2, c, n) ∧ y = .inl x) ∨ ∃ x σ1 c1 n1 c2 n2, o = some (.inr x, σ1, c1, n1) ∧ k x σ1 = some (y, σ2, c2, n2) ∧ c = c1 + c2 ∧ n = n1 + n2 := by
  match o, h with
  | some (.inl x, σ1, c1, n1), h =>
    unfold cbt at h
    simp at h
    obtain ⟨rfl, rfl, rfl, rfl⟩ := h
    exact Or.inl ⟨x, rfl, rfl⟩
  | some (.inr x, σ1, c1, n1), h =>
    unfold cbt at h
    cases hk : k x σ1 with
    | none => simp [hk] at h
    | some q =>
      obtain ⟨y', σ', c', n'⟩ := q
      simp [hk] at h
      obtain ⟨rfl, rfl, rfl, rfl⟩ := h
      exact Or.inr ⟨x, σ1, c1, n1, c', n', rfl, hk, rfl, rfl⟩
theorem drf_some {β : Type} {q : Option Nat} {k : Nat → Option β} {z : β} (h : drf q k = some z) : ∃ a, q = some a ∧ k a = some z := by
  cases q with
  | none => cases h
  | some a => exact ⟨a, rfl, h⟩
theorem opq_n {β : Type} {q : Option Nat} {A : Option β} {k : Nat → Option β} {z : β} (h : opq q A k = some z) (hq : q = none) : A = some z := by subst hq; exact h
theorem opq_s {β : Type} {q : Option Nat} {A : Option β} {k : Nat → Option β} {z : β} {a : Nat} (h : opq q A k = some z) (hq : q = some a) : k a = some z := by subst hq; exact h
def tg (σ : CS) (a t : Nat) : Bool := decide (cty σ a = t)
def tg2 (σ : CS) (a : Nat) : Bool := decide (cty σ a = 5 ∨ cty σ a = 7)
theorem tg_eq {σ : CS} {a t : Nat} (h : tg σ a t = true) : cty σ a = t := of_decide_eq_true h
theorem tg2_eq {σ : CS} {a : Nat} (h : tg2 σ a = true) : cty σ a = 5 ∨ cty σ a = 7 := of_decide_eq_true h
def nb (x : Int32) : Bool := decide (¬ x < 0 ∧ x.toNatClampNeg ≤ 1000000)
theorem nb_eq {x : Int32} (h : nb x = true) : ¬ x < 0 ∧ x.toNatClampNeg ≤ 1000000 := of_decide_eq_true h
def le_ (a b : Nat) : Bool := decide (a ≤ b)
theorem le_eq {a b : Nat} (h : le_ a b = true) : a ≤ b := of_decide_eq_true h
def lt_ (a b : Nat) : Bool := decide (a < b)
theorem lt_eq {a b : Nat} (h : lt_ a b = true) : a < b := of_decide_eq_true h
def toI (z : Nat ⊕ Int32) : Outcome := match z with
  | .inl x => .threw x
  | .inr r => .returned (some (.int r))
def toV (z : Nat ⊕ Int32) : Outcome := match z with
  | .inl x => .threw x
  | .inr _ => .returned none
def toQ (z : Nat ⊕ Option Nat) : Outcome := match z with
  | .inl x => .threw x
  | .inr r => .returned (some (va_rf r))
theorem va_cat (q : Option Nat) : (va_rf q).category = 1 := by cases q <;> rfl
theorem tagO {own : String} {idx g t t' : Nat} (h : t' = t) (p : FldOK own idx g t) : FldOK own idx g t' := h ▸ p
theorem tagW {own : String} {idx g t t' : Nat} {ft : FieldType} (h : t' = t) (p : FldW own idx g ft t) : FldW own idx g ft t' := h ▸ p
theorem tagF {own : String} {idx g t t' : Nat} {ft : FieldType} (h : t' = t) (p : FldF own idx g ft t) : FldF own idx g ft t' := h ▸ p
section CX
variable {Γ : GT} {J J' : JT} {d d' pc : Nat} {lv : List (Nat × Value)} {st rest av As : List Value} {σ σ1 : CS} {bc bs bc' bs' : Nat} {out : Outcome × CS} {b idx n ci x : Nat} {C : String} {r : vw_C} {v : Int32} {q : Option Nat}
theorem Ex_lcmp {x y : Int64} (hdg : decode (jc J) pc = .ok (.lcmp, 1)) (kk : Ex Γ J d (pc + 1) lv (.int (lg_cmp x y) :: rest) σ bc bs out) : Ex Γ J d pc lv (.long y :: .long x :: rest) σ bc bs out := fun A p e s m args below meth c H locs cells slots mc ms ls C hl hI h1 h2 => W.lcmp C.1 C.2.1 hdg (kk A p e s m args below meth c H locs cells slots mc ms ls C hl hI h1 h2)
/-- two constants of the enum -/
theorem Ex.kz {Γ : GT} {J : JT} {d pc : Nat} {lv : List (Nat × Value)} {st : List Value} {σ : CS} {bc bs : Nat} {out : Outcome × CS} (k : (∀ i j, i < 19 → j < 19 → gO Γ i = gO Γ j → i = j) → Ex Γ J d pc lv st σ bc bs out) : Ex Γ J d pc lv st σ bc bs out :=
  fun A p e s m args below meth c H locs cells slots mc ms ls C hl hI h1 h2 => k C.kz.2.1 A p e s m args below meth c H locs cells slots mc ms ls C hl hI h1 h2
theorem Ex_ecmp_ne {i j : Nat} {off : Int} {tgt : Nat} (hi : i < 19) (hj : j < 19) (hdg : decode (jc J) pc = .ok (.if_acmp .ne off, 3)) (ht : (pc : Int) + off = (tgt : Int)) (kt : ¬ j = i → Ex Γ J d tgt lv rest σ bc bs out) (kf : j = i → Ex Γ J d (pc + 3) lv rest σ bc bs out) : Ex Γ J d pc lv (.ref (gO Γ i) :: .ref (gO Γ j) :: rest) σ bc bs out :=
  Ex.kz fun hz => Ex_acmp_ne (rx := some (gO Γ j)) (ry := some (gO Γ i)) hdg ht (fun q => kt (fun e => q (by rw [e]))) (fun q => kf (hz j i hj hi (Option.some.inj q)))
theorem Ex_ecmp_eq {i j : Nat} {off : Int} {tgt : Nat} (hi : i < 19) (hj : j < 19) (hdg : decode (jc J) pc = .ok (.if_acmp .eq off, 3)) (ht : (pc : Int) + off = (tgt : Int)) (kt : j = i → Ex Γ J d tgt lv rest σ bc bs out) (kf : ¬ j = i → Ex Γ J d (pc + 3) lv rest σ bc bs out) : Ex Γ J d pc lv (.ref (gO Γ i) :: .ref (gO Γ j) :: rest) σ bc bs out :=
  Ex.kz fun hz => Ex_acmp_eq (rx := some (gO Γ j)) (ry := some (gO Γ i)) hdg ht (fun q => kt (hz j i hj hi (Option.some.inj q))) (fun q => kf (fun e => q (by rw [e])))
/-- the class object against itself -/
theorem Ex_mcmp_ne {off : Int} {tgt j : Nat} (hdg : decode (jc J) pc = .ok (.if_acmp .ne off, 3)) (ht : (pc : Int) + off = (tgt : Int)) (kf : Ex Γ J d (pc + 3) lv rest σ bc bs out) : Ex Γ J d pc lv (.ref (gO Γ j) :: .ref (gO Γ j) :: rest) σ bc bs out :=
  Ex_acmp_ne (rx := some (gO Γ j)) (ry := some (gO Γ j)) hdg ht (fun q => absurd rfl q) (fun _ => kf)
/-- calls by what they answer -/
theorem Ex_callVi (h : CM Γ J' d' (.ref b :: As) σ bc' bs' (.returned (some (.int v)), σ1)) (hK : CallV (jy J).cls idx J' r.1 n) (hb : cty σ b = ci + 1) (hc : cls_[ci]? = some r) (hd : d' + 1 ≤ d) (hn : As.length = n) (hst : st = As.reverse ++ .ref b :: rest) (hw : (rest.map fun v => v.category).sum ≤ 8) (hdg : decode (jc J) pc = .ok (.invokevirtual idx, 3)) (k : Ex Γ J d (pc + 3) lv (.int v :: rest) σ1 bc bs out) : Ex Γ J d pc lv st σ (bc' + bc) (bs' + bs) out := Ex_callV h hK hb hc hd hn hst hw hdg k
theorem Ex_callVv (h : CM Γ J' d' (.ref b :: As) σ bc' bs' (.returned none, σ1)) (hK : CallV (jy J).cls idx J' r.1 n) (hb : cty σ b = ci + 1) (hc : cls_[ci]? = some r) (hd : d' + 1 ≤ d) (hn : As.length = n) (hst : st = As.reverse ++ .ref b :: rest) (hw : (rest.map fun v => v.category).sum ≤ 8) (hdg : decode (jc J) pc = .ok (.invokevirtual idx, 3)) (k : Ex Γ J d (pc + 3) lv rest σ1 bc bs out) : Ex Γ J d pc lv st σ (bc' + bc) (bs' + bs) out := Ex_callV h hK hb hc hd hn hst hw hdg k
theorem Ex_callVq (h : CM Γ J' d' (.ref b :: As) σ bc' bs' (.returned (some (va_rf q)), σ1)) (hK : CallV (jy J).cls idx J' r.1 n) (hb : cty σ b = ci + 1) (hc : cls_[ci]? = some r) (hd : d' + 1 ≤ d) (hn : As.length = n) (hst : st = As.reverse ++ .ref b :: rest) (hw : (rest.map fun v => v.category).sum ≤ 8) (hdg : decode (jc J) pc = .ok (.invokevirtual idx, 3)) (k : Ex Γ J d (pc + 3) lv (va_rf q :: rest) σ1 bc bs out) : Ex Γ J d pc lv st σ (bc' + bc) (bs' + bs) out := Ex_callV h hK hb hc hd hn hst hw hdg k
theorem Ex_callSi (h : CM Γ J' d' As σ bc' bs' (.returned (some (.int v)), σ1)) (hK : CallS (jy J).cls idx J' n) (hd : d' + 1 ≤ d) (hn : As.length = n) (hst : st = As.reverse ++ rest) (hw : (rest.map fun v => v.category).sum ≤ 8) (hdg : decode (jc J) pc = .ok (.invokestatic idx, 3)) (k : Ex Γ J d (pc + 3) lv (.int v :: rest) σ1 bc bs out) : Ex Γ J d pc lv st σ (bc' + bc) (bs' + bs) out := Ex_callS h hK hd hn hst hw hdg k
theorem Ex_callSq (h : CM Γ J' d' As σ bc' bs' (.returned (some (va_rf q)), σ1)) (hK : CallS (jy J).cls idx J' n) (hd : d' + 1 ≤ d) (hn : As.length = n) (hst : st = As.reverse ++ rest) (hw : (rest.map fun v => v.category).sum ≤ 8) (hdg : decode (jc J) pc = .ok (.invokestatic idx, 3)) (k : Ex Γ J d (pc + 3) lv (va_rf q :: rest) σ1 bc bs out) : Ex Γ J d pc lv st σ (bc' + bc) (bs' + bs) out := Ex_callS h hK hd hn hst hw hdg k
theorem Ex_callPi (h : CM Γ J' d' (.ref b :: As) σ bc' bs' (.returned (some (.int v)), σ1)) (hK : CallP (jy J).cls idx J' n) (hb : cty σ b = 5 ∨ cty σ b = 7) (hd : d' + 1 ≤ d) (hn : As.length = n) (hst : st = As.reverse ++ .ref b :: rest) (hw : (rest.map fun v => v.category).sum ≤ 8) (hdg : decode (jc J) pc = .ok (.invokevirtual idx, 3)) (k : Ex Γ J d (pc + 3) lv (.int v :: rest) σ1 bc bs out) : Ex Γ J d pc lv st σ (bc' + bc) (bs' + bs) out := by
  rcases hb with hb | hb
  · exact Ex_callP (ci := 4) h hK hb rfl hd hn hst hw hdg k
  · exact Ex_callP (ci := 6) h hK hb rfl hd hn hst hw hdg k
theorem Ex_callPv (h : CM Γ J' d' (.ref b :: As) σ bc' bs' (.returned none, σ1)) (hK : CallP (jy J).cls idx J' n) (hb : cty σ b = 5 ∨ cty σ b = 7) (hd : d' + 1 ≤ d) (hn : As.length = n) (hst : st = As.reverse ++ .ref b :: rest) (hw : (rest.map fun v => v.category).sum ≤ 8) (hdg : decode (jc J) pc = .ok (.invokevirtual idx, 3)) (k : Ex Γ J d (pc + 3) lv rest σ1 bc bs out) : Ex Γ J d pc lv st σ (bc' + bc) (bs' + bs) out := by
  rcases hb with hb | hb
  · exact Ex_callP (ci := 4) h hK hb rfl hd hn hst hw hdg k
  · exact Ex_callP (ci := 6) h hK hb rfl hd hn hst hw hdg k
theorem Ex_callUi {y : MethodName} {owner : String} (h : CM Γ J' d' (.ref b :: As) σ bc' bs' (.returned (some (.int v)), σ1)) (hK : CallU (jy J).cls idx J' r.1 owner y n) (hb : cty σ b = ci + 1) (hc : cls_[ci]? = some r) (hd : d' + 1 ≤ d) (hn : As.length = n) (hst : st = As.reverse ++ .ref b :: rest) (hw : (rest.map fun v => v.category).sum ≤ 8) (hdg : decode (jc J) pc = .ok (.invokevirtual idx, 3)) (k : Ex Γ J d (pc + 3) lv (.int v :: rest) σ1 bc bs out) : Ex Γ J d pc lv st σ (bc' + bc) (bs' + bs) out := Ex_callU h hK hb hc hd hn hst hw hdg k
theorem Ex_callUv {y : MethodName} {owner : String} (h : CM Γ J' d' (.ref b :: As) σ bc' bs' (.returned none, σ1)) (hK : CallU (jy J).cls idx J' r.1 owner y n) (hb : cty σ b = ci + 1) (hc : cls_[ci]? = some r) (hd : d' + 1 ≤ d) (hn : As.length = n) (hst : st = As.reverse ++ .ref b :: rest) (hw : (rest.map fun v => v.category).sum ≤ 8) (hdg : decode (jc J) pc = .ok (.invokevirtual idx, 3)) (k : Ex Γ J d (pc + 3) lv rest σ1 bc bs out) : Ex Γ J d pc lv st σ (bc' + bc) (bs' + bs) out := Ex_callU h hK hb hc hd hn hst hw hdg k
theorem Ex_callUq {y : MethodName} {owner : String} (h : CM Γ J' d' (.ref b :: As) σ bc' bs' (.returned (some (va_rf q)), σ1)) (hK : CallU (jy J).cls idx J' r.1 owner y n) (hb : cty σ b = ci + 1) (hc : cls_[ci]? = some r) (hd : d' + 1 ≤ d) (hn : As.length = n) (hst : st = As.reverse ++ .ref b :: rest) (hw : (rest.map fun v => v.category).sum ≤ 8) (hdg : decode (jc J) pc = .ok (.invokevirtual idx, 3)) (k : Ex Γ J d (pc + 3) lv (va_rf q :: rest) σ1 bc bs out) : Ex Γ J d pc lv st σ (bc' + bc) (bs' + bs) out := Ex_callU h hK hb hc hd hn hst hw hdg k
theorem Ex_callSUv (h : CM Γ J' d' (.ref b :: As) σ bc' bs' (.returned none, σ1)) (hK : CallSU (jy J).cls idx J' n) (hb : cty σ b = ci + 1) (hc : cls_[ci]? = some r) (hd : d' + 1 ≤ d) (hn : As.length = n) (hst : st = As.reverse ++ .ref b :: rest) (hw : (rest.map fun v => v.category).sum ≤ 8) (hdg : decode (jc J) pc = .ok (.invokespecial idx, 3)) (k : Ex Γ J d (pc + 3) lv rest σ1 bc bs out) : Ex Γ J d pc lv st σ (bc' + bc) (bs' + bs) out := Ex_callSU h hK hb hc hd hn hst hw hdg k
theorem Ex_aastoreE {i : Int32} {a w : Nat} (ht : cty σ a = 53) (hv : isEl (cty σ w) = true) (hin : ib i (cln σ a) = true) (hdg : decode (jc J) pc = .ok (.aastore, 1)) (kk : Ex Γ J d (pc + 1) lv rest (putR σ a i.toNatClampNeg (some w)) bc bs out) : Ex Γ J d pc lv (.ref w :: .int i :: .ref a :: rest) σ bc bs out := by
  obtain ⟨ci, r, e, hc, hca⟩ := isEl_spec hv
  exact Ex_aastore ht e hc hca hin hdg kk
theorem Ex_castS {a : Nat} (hv : cty σ a = ci + 1) (hc : cls_[ci]? = some r) (hl' : Cond.classLink (jy J).cls idx r.1 ∈ lw_all) (hdg : decode (jc J) pc = .ok (.checkcast idx, 3)) (kk : Ex Γ J d (pc + 3) lv (.ref a :: rest) σ bc bs out) : Ex Γ J d pc lv (.ref a :: rest) σ bc bs out := by
  intro A p e s m args below meth c H locs cells slots mc ms ls C hl hI h1 h2
  obtain ⟨cellV, g1, g2, g3, -⟩ := (hI.1.2.2.2.1 a).1 ci r hv hc
  exact va_castS C.1 C.2.1 C.own (C.ts _ hl') (C.kn.1 ci r hc).2 ⟨cellV, g1, by rw [g3]; rfl, by rw [g2]; exact (C.kn.1 ci r hc).2.1⟩ hdg (kk A p e s m args below meth c H locs cells slots mc ms ls C hl hI h1 h2)
theorem Ex_mmax {x y : Int32} (hl' : Cond.methodLink (jy J).cls idx Lib.Math.max.name ∈ lw_all) (hs' : Cond.static Lib.Math.max.name ∈ lw_all) (hi' : Cond.initialized "java/lang/Math" ∈ lw_all) (hc' : Cond.code Lib.Math.max.name Lib.Math.max.code 2 (some .int) ∈ lw_all) (hd : 1 ≤ d) (hw : (rest.map fun v => v.category).sum ≤ 8) (hdg : decode (jc J) pc = .ok (.invokestatic idx, 3)) (k : Ex Γ J d (pc + 3) lv (.int (if x < y then y else x) :: rest) σ bc bs out) : Ex Γ J d pc lv (.int y :: .int x :: rest) σ bc bs out :=
  fun A p e s m args below meth c H locs cells slots mc ms ls X hl hI h1 h2 => va_mmax X.1 X.2.1 (by rw [X.ml]; exact hl.1.symm) X.own (X.ts _ hl') (X.ts _ hs') (X.ts _ hi') (X.ts _ hc') hd (by show _ ≤ 40 * d; omega) (by show _ ≤ mc; omega) (by show _ ≤ ms; omega) hdg (k A p e s m args below meth c H locs cells slots mc ms ls X hl hI h1 h2)
theorem Ex_mmin {x y : Int32} (hl' : Cond.methodLink (jy J).cls idx Lib.Math.min.name ∈ lw_all) (hs' : Cond.static Lib.Math.min.name ∈ lw_all) (hi' : Cond.initialized "java/lang/Math" ∈ lw_all) (hc' : Cond.code Lib.Math.min.name Lib.Math.min.code 2 (some .int) ∈ lw_all) (hd : 1 ≤ d) (hw : (rest.map fun v => v.category).sum ≤ 8) (hdg : decode (jc J) pc = .ok (.invokestatic idx, 3)) (k : Ex Γ J d (pc + 3) lv (.int (if y < x then y else x) :: rest) σ bc bs out) : Ex Γ J d pc lv (.int y :: .int x :: rest) σ bc bs out :=
  fun A p e s m args below meth c H locs cells slots mc ms ls X hl hI h1 h2 => va_mmin X.1 X.2.1 (by rw [X.ml]; exact hl.1.symm) X.own (X.ts _ hl') (X.ts _ hs') (X.ts _ hi') (X.ts _ hc') hd (by show _ ≤ 40 * d; omega) (by show _ ≤ mc; omega) (by show _ ≤ ms; omega) hdg (k A p e s m args below meth c H locs cells slots mc ms ls X hl hI h1 h2)
theorem opN_ex {j : Nat} (h : j < 19) : ∃ nm, opN[j]? = some nm := ⟨opN[j]'h, List.getElem?_eq_getElem h⟩
end CX
theorem dJ17_ordinal_0 : decode cJ17_ordinal 0 = .ok (.aload_n 0, 1) := by decide +kernel
theorem dJ17_ordinal_1 : decode cJ17_ordinal 1 = .ok (.getfield 7, 3) := by decide +kernel
theorem dJ17_ordinal_4 : decode cJ17_ordinal 4 = .ok (.ireturn, 1) := by decide +kernel
/-! Enum.ordinal -/
abbrev JJ17_ordinal : JT := mkJ yJ17_ordinal cJ17_ordinal 1 (some .int)
theorem C_ordinal {Γ : GT} {σ : CS} {j : Nat} (hj : j < 19) : CM Γ JJ17_ordinal 1 [.ref (gO Γ j)] σ 0 0 (.returned (some (.int (nI j))), σ) := by
  obtain ⟨nm, hn⟩ := opN_ex hj
  refine CM.of (by decide +kernel) (Nat.le_of_ble_eq_true rfl) ?_
  show Ex Γ JJ17_ordinal 1 0 [(0, .ref (gO Γ j))] [] σ 0 0 _
  refine Ex_aload_n dJ17_ordinal_0 rfl rfl ?_
  refine Ex_getOrd hn q1921 dJ17_ordinal_1 ?_
  exact Ex_ireturn rfl dJ17_ordinal_4
theorem Ex_ord {Γ : GT} {J : JT} {d pc j : Nat} {lv : List (Nat × Value)} {rest : List Value} {σ : CS} {bc bs : Nat} {out : Outcome × CS} (hj : j < 19) (hK : CallU (jy J).cls 81 JJ17_ordinal "ForkJoinDesk$Op" "java/lang/Enum" ⟨"ForkJoinDesk$Op", "ordinal", "()I"⟩ 0) (hd : 2 ≤ d) (hw : (rest.map fun v => v.category).sum ≤ 8) (hdg : decode (jc J) pc = .ok (.invokevirtual 81, 3)) (k : Ex Γ J d (pc + 3) lv (.int (nI j) :: rest) σ bc bs out) : Ex Γ J d pc lv (.ref (gO Γ j) :: rest) σ bc bs out := by
  obtain ⟨nm, hn⟩ := opN_ex hj
  have h := Ex_callO (bc' := 0) (bs' := 0) (bc := bc) (bs := bs) hn (C_ordinal (σ := σ) hj) hK hd hw hdg k
  rw [Nat.zero_add, Nat.zero_add] at h
  exact h
