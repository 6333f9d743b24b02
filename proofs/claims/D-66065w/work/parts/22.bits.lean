set_option maxRecDepth 100000
/-! bits (the rows down to b_sshr began as the kit's BITS.to-paste) -/
def bt (x : Int32) (i : Nat) : Bool := x.toBitVec.getLsbD i
theorem b_ext {x y : Int32} (h : ∀ i, i < 32 → bt x i = bt y i) : x = y := Int32.toBitVec_inj.mp (BitVec.eq_of_getLsbD_eq (fun i hi => h i hi))
theorem b_or (x y : Int32) (i : Nat) : bt (x ||| y) i = (bt x i || bt y i) := by unfold bt; rw [Int32.toBitVec_or, BitVec.getLsbD_or]
theorem b_and (x y : Int32) (i : Nat) : bt (x &&& y) i = (bt x i && bt y i) := by unfold bt; rw [Int32.toBitVec_and, BitVec.getLsbD_and]
theorem b_xor (x y : Int32) (i : Nat) : bt (x ^^^ y) i = (bt x i ^^ bt y i) := by unfold bt; rw [Int32.toBitVec_xor, BitVec.getLsbD_xor]
theorem b_big {x : Int32} {i : Nat} (h : 32 ≤ i) : bt x i = false := BitVec.getLsbD_of_ge _ _ h
theorem b_m1 : ∀ i, i < 32 → bt (-1) i = true := by decide +kernel
theorem b_0 (i : Nat) : bt 0 i = false := BitVec.getLsbD_zero
theorem s_l : ∀ n, n < 32 → ((nI n &&& 31).toBitVec.smod 32).toNat = n := by decide +kernel
theorem b_shl (n : Nat) (hn : n < 32) (x : Int32) {i : Nat} (hi : i < 32) : bt (x <<< (nI n &&& 31)) i = (decide (n ≤ i) && bt x (i - n)) := by
  unfold bt
  rw [Int32.toBitVec_shiftLeft]
  show (x.toBitVec <<< ((nI n &&& 31).toBitVec.smod 32).toNat).getLsbD i = _
  rw [s_l n hn, BitVec.getLsbD_shiftLeft]
  rcases Nat.lt_or_ge i n with h | h
  · simp [h, Nat.not_le.mpr h]
  · simp [hi, h, Nat.not_lt.mpr h]
theorem b_sshr (n : Nat) (hn : n < 32) (x : Int32) {i : Nat} (hi : i < 32) : bt (x >>> (nI n &&& 31)) i = if n + i < 32 then bt x (n + i) else bt x 31 := by
  unfold bt
  rw [Int32.toBitVec_shiftRight]
  show (x.toBitVec.sshiftRight ((nI n &&& 31).toBitVec.smod 32).toNat).getLsbD i = _
  rw [s_l n hn, BitVec.getLsbD_sshiftRight, BitVec.msb_eq_getLsbD_last]
  simp [hi]
theorem b_1 (i : Nat) : bt 1 i = decide (i = 0) := by
  rcases Nat.lt_or_ge i 32 with h | h
  · exact (by decide +kernel : ∀ i, i < 32 → bt 1 i = decide (i = 0)) i h
  · rw [b_big h, decide_eq_false (by omega)]
theorem b_one {r i : Nat} (hr : r < 32) (hi : i < 32) : bt ((1 : Int32) <<< (nI r &&& 31)) i = decide (i = r) := by
  rw [b_shl r hr 1 hi, b_1]
  by_cases h : i = r
  · subst h; simp
  · rw [decide_eq_false h]
    by_cases h2 : r ≤ i
    · rw [decide_eq_true h2, decide_eq_false (by omega)]; rfl
    · rw [decide_eq_false h2]; rfl
theorem b_test (w : Int32) {r : Nat} (hr : r < 32) : ((w >>> (nI r &&& 31)) &&& 1) = 1 ↔ bt w r = true := by
  constructor
  · intro h
    have h1 : bt ((w >>> (nI r &&& 31)) &&& 1) 0 = bt 1 0 := by rw [h]
    rw [b_and, b_sshr r hr w (by omega), b_1, if_pos (by omega)] at h1
    simpa using h1
  · intro h
    refine b_ext fun i hi => ?_
    rw [b_and, b_sshr r hr w hi, b_1]
    by_cases c : i = 0
    · subst c; rw [if_pos (by omega)]; simp [h]
    · rw [decide_eq_false c, Bool.and_false]
theorem b_zero (w : Int32) : w = 0 ↔ ∀ i, i < 32 → bt w i = false := ⟨fun h i _ => by rw [h]; exact b_0 i, fun h => b_ext fun i hi => by rw [h i hi, b_0]⟩
theorem b_not (w : Int32) {i : Nat} (hi : i < 32) : bt (w ^^^ (-1)) i = !bt w i := by rw [b_xor, b_m1 i hi]; cases bt w i <;> rfl
/-! rows of bits: 47 words a row -/
def hsb (row : Nat → Int32) (base s : Nat) : Bool := bt (row (base + s / 32)) (s % 32)
def putB (a : MA) (j base s : Nat) : MA := u2 a j (base + s / 32) (a j (base + s / 32) ||| ((1 : Int32) <<< (nI (s % 32) &&& 31)))
theorem u2_s {α : Type} {f : Nat → Nat → α} {i j : Nat} {v : α} : u2 f i j v i j = v := if_pos ⟨rfl, rfl⟩
theorem u2_n {α : Type} {f : Nat → Nat → α} {i j i' j' : Nat} {v : α} (h : ¬ (i' = i ∧ j' = j)) : u2 f i j v i' j' = f i' j' := if_neg h
theorem u2_o {α : Type} {f : Nat → Nat → α} {i j i' : Nat} {v : α} (h : i' ≠ i) : u2 f i j v i' = f i' := funext fun j' => if_neg (fun q => h q.1)
theorem hsb_put {a : MA} {j j' t t' s s' : Nat} (hs : s < 1504) (hs' : s' < 1504) : hsb (putB a j (47 * t) s j') (47 * t') s' = (hsb (a j') (47 * t') s' || decide (j' = j ∧ t' = t ∧ s' = s)) := by
  unfold hsb putB
  by_cases c : j' = j ∧ 47 * t' + s' / 32 = 47 * t + s / 32
  · obtain ⟨c1, c2⟩ := c
    rw [c1, c2, u2_s, b_or, b_one (by omega) (by omega)]
    have e : t' = t := by omega
    congr 1
    apply decide_eq_decide.mpr
    constructor
    · intro q; exact ⟨rfl, e, by omega⟩
    · rintro ⟨-, -, q⟩; rw [q]
  · rw [u2_n c, decide_eq_false, Bool.or_false]
    rintro ⟨q1, q2, q3⟩
    exact c ⟨q1, by rw [q2, q3]⟩
