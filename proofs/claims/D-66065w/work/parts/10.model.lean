set_option maxRecDepth 100000
/-! the reference: one object (field numbers 1300 ..), 45 arrays behind it in a row; f: its ints by number; a: its arrays by place -/
def mlens : List Nat := [400, 8, 8, 24, 8, 500, 500, 500, 200, 200, 1000, 40, 500, 500, 500, 8, 8, 24, 32, 101, 4040, 4040, 105040, 6464, 101, 101, 64, 2, 2, 70500, 40, 40, 40, 1880, 40, 40, 1504, 1504, 32, 128, 300, 600, 600, 600, 101]
def mlen (j : Nat) : Nat := mlens.getD j 0
def mtag (j : Nat) : Nat := if j = 30 ∨ j = 31 ∨ j = 38 ∨ j = 43 then 52 else 50
def mgids : List Nat := [1301, 1309, 1310, 1311, 1312, 1314, 1315, 1316, 1318, 1319, 1324, 1326, 1330, 1331, 1332, 1333, 1334, 1335, 1336, 1337, 1338, 1339, 1340, 1341, 1342, 1343, 1344, 1345, 1346, 1354, 1355, 1356, 1357, 1358, 1359, 1360, 1361, 1362, 1363, 1365, 1367, 1373, 1374, 1375, 1376]
def maix (g : Nat) : Nat := mgids.idxOf g
def mixM (m : Nat) (f : Nat → Int32) (a : Nat → Nat → Int32) (sz : Nat) : CS :=
  mkC (fun x => if x = m then 14 else if m < x ∧ x ≤ m + 45 then mtag (x - m - 1) else 0) (fun x => mlen (x - m - 1)) (fun g x => if x = m then f g else 0) (fun g x => if x = m then some (m + 1 + maix g) else none)
    (fun x => if m < x ∧ x ≤ m + 45 then a (x - m - 1) else fun _ => 0) (fun _ _ => none) sz
section MM
variable {m sz : Nat} {f : Nat → Int32} {a : Nat → Nat → Int32}
theorem mix_ty : cty (mixM m f a sz) m = 14 := if_pos rfl
theorem mix_hi {g : Nat} : chi (mixM m f a sz) g m = f g := if_pos rfl
theorem mix_hr {g : Nat} : chr (mixM m f a sz) g m = some (m + 1 + maix g) := if_pos rfl
theorem mix_at {j : Nat} (hj : j < 45) : cty (mixM m f a sz) (m + 1 + j) = mtag j := by
  show (if m + 1 + j = m then 14 else if m < m + 1 + j ∧ m + 1 + j ≤ m + 45 then mtag (m + 1 + j - m - 1) else 0) = _
  rw [if_neg (by omega), if_pos (by omega), show m + 1 + j - m - 1 = j by omega]
theorem mix_ln {j : Nat} : cln (mixM m f a sz) (m + 1 + j) = mlen j := by
  show mlen (m + 1 + j - m - 1) = _
  rw [show m + 1 + j - m - 1 = j by omega]
theorem mix_ai {j : Nat} (hj : j < 45) : cai (mixM m f a sz) (m + 1 + j) = a j := by
  show (if m < m + 1 + j ∧ m + 1 + j ≤ m + 45 then a (m + 1 + j - m - 1) else fun _ => 0) = _
  rw [if_pos (by omega), show m + 1 + j - m - 1 = j by omega]
theorem mix_setI (g : Nat) (v : Int32) : setI (mixM m f a sz) g m v = mixM m (u1 f g v) a sz := by
  have h : u2 (chi (mixM m f a sz)) g m v = fun g' x => if x = m then u1 f g v g' else 0 := by
    funext g' x
    show (if g' = g ∧ x = m then v else if x = m then f g' else 0) = if x = m then (if g' = g then v else f g') else 0
    by_cases h1 : x = m <;> by_cases h2 : g' = g <;> simp [h1, h2]
  show mkC _ _ (u2 (chi (mixM m f a sz)) g m v) _ _ _ _ = _
  rw [h]
  rfl
theorem mix_putI {j : Nat} (hj : j < 45) (i : Nat) (v : Int32) : putI (mixM m f a sz) (m + 1 + j) i v = mixM m f (u2 a j i v) sz := by
  have h : u2 (cai (mixM m f a sz)) (m + 1 + j) i v = fun x => if m < x ∧ x ≤ m + 45 then u2 a j i v (x - m - 1) else fun _ => 0 := by
    funext x i'
    show (if x = m + 1 + j ∧ i' = i then v else (if m < x ∧ x ≤ m + 45 then a (x - m - 1) else fun _ => 0) i') = (if m < x ∧ x ≤ m + 45 then (fun i' => if x - m - 1 = j ∧ i' = i then v else a (x - m - 1) i') else fun _ => 0) i'
    by_cases h1 : m < x ∧ x ≤ m + 45
    · rw [if_pos h1, if_pos h1]
      by_cases h2 : x = m + 1 + j
      · have h3 : x - m - 1 = j := by omega
        simp [h2]
        simp [show m + 1 + j - m - 1 = j by omega]
      · have h3 : ¬ x - m - 1 = j := by omega
        simp [h2, h3]
    · rw [if_neg h1, if_neg h1, if_neg (by omega)]
  show mkC _ _ _ _ (u2 (cai (mixM m f a sz)) (m + 1 + j) i v) _ _ = _
  rw [h]
  rfl
variable {Γ : GT} {J : JT} {d pc idx g j : Nat} {lv : List (Nat × Value)} {rest : List Value} {bc bs : Nat} {out : Outcome × CS}
theorem m300 {own : String} (hF : FldOK own idx g 14) : g ≠ 300 := by
  obtain ⟨ci, q, ty, k, ht, hC, hk, hg, -⟩ := hF
  have h2 := cls_lt hC.1
  have h3 : ci = 13 := by omega
  subst h3
  unfold gid at hg
  split at hg <;> omega
theorem Em_get (hF : FldOK (jy J).cls idx g 14) (hi : isR g = false) (hdg : decode (jc J) pc = .ok (.getfield idx, 3)) (kk : Ex Γ J d (pc + 3) lv (.int (f g) :: rest) (mixM m f a sz) bc bs out) : Ex Γ J d pc lv (.ref m :: rest) (mixM m f a sz) bc bs out :=
  Ex_getI (g := g) (by rw [mix_ty]; exact hF) hi hdg (by rw [mix_hi]; exact kk)
theorem Em_getA (hF : FldOK (jy J).cls idx g 14) (hi : isR g = true) (hj : maix g = j) (hdg : decode (jc J) pc = .ok (.getfield idx, 3)) (kk : Ex Γ J d (pc + 3) lv (.ref (m + 1 + j) :: rest) (mixM m f a sz) bc bs out) : Ex Γ J d pc lv (.ref m :: rest) (mixM m f a sz) bc bs out :=
  Ex_getR (g := g) (by rw [mix_ty]; exact hF) hi (m300 hF) hdg (by rw [mix_hr, hj]; exact kk)
theorem Em_put {v : Int32} {ft : FieldType} (hF : FldW (jy J).cls idx g ft 14) (hi : isR g = false) (hn : narrow ft (.int v) = .int v) (hfit : fits ft (.int v) = true) (hdg : decode (jc J) pc = .ok (.putfield idx, 3)) (kk : Ex Γ J d (pc + 3) lv rest (mixM m (u1 f g v) a sz) bc bs out) : Ex Γ J d pc lv (.int v :: .ref m :: rest) (mixM m f a sz) bc bs out :=
  Ex_putI (g := g) (by rw [mix_ty]; exact hF) hi hn hfit hdg (by rw [mix_setI]; exact kk)
theorem Em_iald {i : Int32} (hj : j < 45) (ht : mtag j = 50) (hin : ib i (mlen j) = true) (hdg : decode (jc J) pc = .ok (.iaload, 1)) (kk : Ex Γ J d (pc + 1) lv (.int (a j i.toNatClampNeg) :: rest) (mixM m f a sz) bc bs out) : Ex Γ J d pc lv (.int i :: .ref (m + 1 + j) :: rest) (mixM m f a sz) bc bs out :=
  Ex_iaload (by rw [mix_at hj, ht]) (by rw [mix_ln]; exact hin) hdg (by rw [mix_ai hj]; exact kk)
theorem Em_zald {i : Int32} (hj : j < 45) (ht : mtag j = 52) (hin : ib i (mlen j) = true) (hdg : decode (jc J) pc = .ok (.baload, 1)) (kk : Ex Γ J d (pc + 1) lv (.int (a j i.toNatClampNeg) :: rest) (mixM m f a sz) bc bs out) : Ex Γ J d pc lv (.int i :: .ref (m + 1 + j) :: rest) (mixM m f a sz) bc bs out :=
  Ex_zaload (by rw [mix_at hj, ht]) (by rw [mix_ln]; exact hin) hdg (by rw [mix_ai hj]; exact kk)
theorem Em_iast {i x : Int32} (hj : j < 45) (ht : mtag j = 50) (hin : ib i (mlen j) = true) (hdg : decode (jc J) pc = .ok (.iastore, 1)) (kk : Ex Γ J d (pc + 1) lv rest (mixM m f (u2 a j i.toNatClampNeg x) sz) bc bs out) : Ex Γ J d pc lv (.int x :: .int i :: .ref (m + 1 + j) :: rest) (mixM m f a sz) bc bs out :=
  Ex_iastore (by rw [mix_at hj, ht]) (by rw [mix_ln]; exact hin) hdg (by rw [mix_putI hj]; exact kk)
theorem Em_zast {i x : Int32} (hj : j < 45) (ht : mtag j = 52) (hin : ib i (mlen j) = true) (hdg : decode (jc J) pc = .ok (.bastore, 1)) (kk : Ex Γ J d (pc + 1) lv rest (mixM m f (u2 a j i.toNatClampNeg (vp_nar .boolean x)) sz) bc bs out) : Ex Γ J d pc lv (.int x :: .int i :: .ref (m + 1 + j) :: rest) (mixM m f a sz) bc bs out :=
  Ex_zastore (by rw [mix_at hj, ht]) (by rw [mix_ln]; exact hin) hdg (by rw [mix_putI hj]; exact kk)
theorem Em_callV {J' : JT} {d' n : Nat} {As st : List Value} {v : Option Value} {f' : Nat → Int32} {a' : Nat → Nat → Int32} (h : CM Γ J' d' (.ref m :: As) (mixM m f a sz) 0 0 (.returned v, mixM m f' a' sz)) (hK : CallV (jy J).cls idx J' RX7 n) (hd : d' + 1 ≤ d) (hn : As.length = n) (hst : st = As.reverse ++ .ref m :: rest) (hw : (rest.map fun v => v.category).sum ≤ 8) (hdg : decode (jc J) pc = .ok (.invokevirtual idx, 3))
    (k : Ex Γ J d (pc + 3) lv (v.toList ++ rest) (mixM m f' a' sz) 0 0 out) : Ex Γ J d pc lv st (mixM m f a sz) 0 0 out :=
  Ex_callV (r := (RX7, TX7, 77)) (ci := 13) (bc := 0) (bs := 0) h hK mix_ty rfl hd hn hst hw hdg k
theorem Em_callS {J' : JT} {d' n : Nat} {As st : List Value} {v : Option Value} {f' : Nat → Int32} {a' : Nat → Nat → Int32} (h : CM Γ J' d' As (mixM m f a sz) 0 0 (.returned v, mixM m f' a' sz)) (hK : CallS (jy J).cls idx J' n) (hd : d' + 1 ≤ d) (hn : As.length = n) (hst : st = As.reverse ++ rest) (hw : (rest.map fun v => v.category).sum ≤ 8) (hdg : decode (jc J) pc = .ok (.invokestatic idx, 3))
    (k : Ex Γ J d (pc + 3) lv (v.toList ++ rest) (mixM m f' a' sz) 0 0 out) : Ex Γ J d pc lv st (mixM m f a sz) 0 0 out :=
  Ex_callS (bc := 0) (bs := 0) h hK hd hn hst hw hdg k
theorem Em_callVi {J' : JT} {d' n : Nat} {As st : List Value} {r : Int32} {f' : Nat → Int32} {a' : Nat → Nat → Int32} (h : CM Γ J' d' (.ref m :: As) (mixM m f a sz) 0 0 (.returned (some (.int r)), mixM m f' a' sz)) (hK : CallV (jy J).cls idx J' RX7 n) (hd : d' + 1 ≤ d) (hn : As.length = n) (hst : st = As.reverse ++ .ref m :: rest) (hw : (rest.map fun v => v.category).sum ≤ 8) (hdg : decode (jc J) pc = .ok (.invokevirtual idx, 3))
    (k : Ex Γ J d (pc + 3) lv (.int r :: rest) (mixM m f' a' sz) 0 0 out) : Ex Γ J d pc lv st (mixM m f a sz) 0 0 out := Em_callV h hK hd hn hst hw hdg k
theorem Em_callVv {J' : JT} {d' n : Nat} {As st : List Value} {f' : Nat → Int32} {a' : Nat → Nat → Int32} (h : CM Γ J' d' (.ref m :: As) (mixM m f a sz) 0 0 (.returned none, mixM m f' a' sz)) (hK : CallV (jy J).cls idx J' RX7 n) (hd : d' + 1 ≤ d) (hn : As.length = n) (hst : st = As.reverse ++ .ref m :: rest) (hw : (rest.map fun v => v.category).sum ≤ 8) (hdg : decode (jc J) pc = .ok (.invokevirtual idx, 3))
    (k : Ex Γ J d (pc + 3) lv rest (mixM m f' a' sz) 0 0 out) : Ex Γ J d pc lv st (mixM m f a sz) 0 0 out := Em_callV h hK hd hn hst hw hdg k
theorem Em_callSi {J' : JT} {d' n : Nat} {As st : List Value} {r : Int32} {f' : Nat → Int32} {a' : Nat → Nat → Int32} (h : CM Γ J' d' As (mixM m f a sz) 0 0 (.returned (some (.int r)), mixM m f' a' sz)) (hK : CallS (jy J).cls idx J' n) (hd : d' + 1 ≤ d) (hn : As.length = n) (hst : st = As.reverse ++ rest) (hw : (rest.map fun v => v.category).sum ≤ 8) (hdg : decode (jc J) pc = .ok (.invokestatic idx, 3))
    (k : Ex Γ J d (pc + 3) lv (.int r :: rest) (mixM m f' a' sz) 0 0 out) : Ex Γ J d pc lv st (mixM m f a sz) 0 0 out := Em_callS h hK hd hn hst hw hdg k
theorem Em_callSv {J' : JT} {d' n : Nat} {As st : List Value} {f' : Nat → Int32} {a' : Nat → Nat → Int32} (h : CM Γ J' d' As (mixM m f a sz) 0 0 (.returned none, mixM m f' a' sz)) (hK : CallS (jy J).cls idx J' n) (hd : d' + 1 ≤ d) (hn : As.length = n) (hst : st = As.reverse ++ rest) (hw : (rest.map fun v => v.category).sum ≤ 8) (hdg : decode (jc J) pc = .ok (.invokestatic idx, 3))
    (k : Ex Γ J d (pc + 3) lv rest (mixM m f' a' sz) 0 0 out) : Ex Γ J d pc lv st (mixM m f a sz) 0 0 out := Em_callS h hK hd hn hst hw hdg k
end MM
/-! what a method computes: none if it would leave an array's bounds (or go round too often) -/
abbrev MF : Type := Nat → Int32
abbrev MA : Type := Nat → Nat → Int32
def chk {α : Type} (b : Bool) (k : Option α) : Option α := if b = true then k else none
theorem chk_some {α : Type} {b : Bool} {k : Option α} {z : α} (h : chk b k = some z) : b = true ∧ k = some z := by
  unfold chk at h
  by_cases hb : b = true
  · rw [if_pos hb] at h; exact ⟨hb, h⟩
  · rw [if_neg hb] at h; cases h
def bnd {β : Type} (o : Option (Int32 × MF × MA)) (k : Int32 → MF → MA → Option β) : Option β := match o with
  | some (r, f, a) => k r f a
  | none => none
theorem bnd_some {β : Type} {o : Option (Int32 × MF × MA)} {k : Int32 → MF → MA → Option β} {z : β} (h : bnd o k = some z) : ∃ r f a, o = some (r, f, a) ∧ k r f a = some z := by
  cases o with
  | none => cases h
  | some q => obtain ⟨r, f, a⟩ := q; exact ⟨r, f, a, rfl, h⟩
def zb (v : Int32) : Bool := decide (v = 0 ∨ v = 1)
theorem zb_n {v : Int32} (h : zb v = true) : narrow .boolean (.int v) = .int v := by
  rcases of_decide_eq_true h with h | h <;> subst h <;> rfl
theorem if_t {α : Type} {c : Prop} [Decidable c] {x y : Option α} {z : α} (h : (if c then x else y) = some z) (hc : c) : x = some z := by rwa [if_pos hc] at h
theorem if_f {α : Type} {c : Prop} [Decidable c] {x y : Option α} {z : α} (h : (if c then x else y) = some z) (hc : ¬ c) : y = some z := by rwa [if_neg hc] at h
theorem zb_f {v : Int32} (h : zb v = true) : fits .boolean (.int v) = true := by
  rcases of_decide_eq_true h with h | h <;> subst h <;> rfl

