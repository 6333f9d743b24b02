set_option maxRecDepth 100000
/-! the reference: a step of the serial run -/
def psB (o n d pr : Nat) (fo fk : Bool) : Bool := decide (1500 < n + (if o = 10 then 1 else if o = 11 then bN fo else if o = 14 then bN fo + bN fk else 0) ∨ ((o = 9 ∨ o = 10) ∧ d + 1 = 40) ∨ (o = 8 ∧ pr = 300))
section MQ
variable {f f' : MF} {a a' : MA} {o n d pr pc b b0 m p s : Nat} {fo fk : Bool} {q : Nat → Nat}
theorem bN_le (b : Bool) : bN b ≤ 1 := by cases b <;> decide
theorem mm_p61 {y : Nat} (hy : y ≤ 2) (hn : f 1350 = nI n) (hn2 : n ≤ 1500) (hd : a 19 100 = nI (d + 1)) (hd2 : d < 40) (hp : f 1366 = nI pr) (hp2 : pr ≤ 300) (ho : o < 15) :
    m_passes_61 (nI o) (nI y) f a = some (zI (decide (1500 < n + y ∨ ((o = 9 ∨ o = 10) ∧ d + 1 = 40) ∨ (o = 8 ∧ pr = 300))), f, a) := by
  have n_ : ∀ k : Nat, k < 15 → (nI o = nI k ↔ o = k) := fun k hk => nI_eq (by omega) (by omega)
  have n9 : nI o = (9 : Int32) ↔ o = 9 := n_ 9 (by omega)
  have n10 : nI o = (10 : Int32) ↔ o = 10 := n_ 10 (by omega)
  have n8 : nI o = (8 : Int32) ↔ o = 8 := n_ 8 (by omega)
  have d40 : nI (d + 1) = (40 : Int32) ↔ d + 1 = 40 := nI_eq (b := 40) (by omega) (by decide)
  have p300 : nI pr = (300 : Int32) ↔ pr = 300 := nI_eq (b := 300) (by omega) (by decide)
  have l15 : (1500 : Int32) < nI (n + y) ↔ 1500 < n + y := nI_ltI (a := 1500) (by decide) (by omega)
  have i100 : ib (100 : Int32) 101 = true := by decide
  unfold m_passes_61
  simp only [hn, nI_add, l15, n9, n10, n8, hd, hp, d40, p300, ml19, i100, chk_t, show (100 : Int32).toNatClampNeg = 100 from rfl]
  by_cases c1 : 1500 < n + y
  · rw [if_pos c1, decide_eq_true (Or.inl c1)]; rfl
  · rw [if_neg c1]
    by_cases c2 : o = 9
    · rw [if_pos c2]
      by_cases c3 : d + 1 = 40
      · rw [if_pos c3, decide_eq_true (Or.inr (Or.inl ⟨Or.inl c2, c3⟩))]; rfl
      · rw [if_neg c3, if_neg (by omega), decide_eq_false (by omega)]; rfl
    · rw [if_neg c2]
      by_cases c4 : o = 10
      · rw [if_pos c4]
        by_cases c3 : d + 1 = 40
        · rw [if_pos c3, decide_eq_true (Or.inr (Or.inl ⟨Or.inr c4, c3⟩))]; rfl
        · rw [if_neg c3, if_neg (by omega), decide_eq_false (by omega)]; rfl
      · rw [if_neg c4]
        by_cases c5 : o = 8
        · rw [if_pos c5]
          by_cases c6 : pr = 300
          · rw [if_pos c6, decide_eq_true (Or.inr (Or.inr ⟨c5, c6⟩))]; rfl
          · rw [if_neg c6, decide_eq_false (by omega)]; rfl
        · rw [if_neg c5, decide_eq_false (by omega)]; rfl
theorem mm_passes (hn : f 1350 = nI n) (hn2 : n ≤ 1500) (hd : a 19 100 = nI (d + 1)) (hd2 : d < 40) (hp : f 1366 = nI pr) (hp2 : pr ≤ 300) (ho : o < 15) (h30 : a 30 d = zI fo) (h31 : a 31 d = zI fk) :
    m_passes (nI o) (nI d) f a = some (zI (psB o n d pr fo fk), f, a) := by
  have n_ : ∀ k : Nat, k < 15 → (nI o = nI k ↔ o = k) := fun k hk => nI_eq (by omega) (by omega)
  have n10 : nI o = (10 : Int32) ↔ o = 10 := n_ 10 (by omega)
  have n11 : nI o = (11 : Int32) ↔ o = 11 := n_ 11 (by omega)
  have n14 : nI o = (14 : Int32) ↔ o = 14 := n_ 14 (by omega)
  have cd : (nI d).toNatClampNeg = d := cln_ (by omega)
  have b1 := bN_le fo
  have b2 := bN_le fk
  have p61 := fun (y : Nat) (hy : y ≤ 2) => mm_p61 (a := a) (o := o) hy hn hn2 hd hd2 hp hp2 ho
  have z1 : ∀ b : Bool, zI b = nI (bN b) := by intro b; cases b <;> rfl
  unfold m_passes
  simp only [n10, n11, n14]
  by_cases c1 : o = 10
  · rw [if_pos c1]
    show m_passes_61 (nI o) (nI 1) f a = _
    rw [p61 1 (by omega)]; unfold psB; rw [if_pos c1]
  · rw [if_neg c1]
    have p22 : o = 11 ∨ o = 14 → m_passes_22 (nI o) (nI d) f a = some (zI (psB o n d pr fo fk), f, a) := by
      intro ho2
      have p36 : m_passes_36 (nI o) (nI d) (nI (bN fo)) f a = some (zI (psB o n d pr fo fk), f, a) := by
        unfold m_passes_36 m_passes_55 m_passes_56
        simp only [n14, cd, ml31, ibn hd2 (show 40 < 2 ^ 31 by decide), chk_t, h31]
        by_cases c2 : o = 14
        · rw [if_pos c2]
          have e : ∀ b : Bool, nI (bN fo) + zI b = nI (bN fo + bN b) := by intro b; rw [z1, nI_add]
          unfold psB
          cases fk with
          | false =>
            rw [if_pos (show zI false = 0 from rfl)]
            show m_passes_61 (nI o) (nI (bN fo) + zI false) f a = _
            rw [e, p61 _ (by omega), if_neg c1, if_neg (by omega), if_pos c2]
          | true =>
            rw [if_neg (show ¬ zI true = 0 by decide)]
            show m_passes_61 (nI o) (nI (bN fo) + zI true) f a = _
            rw [e, p61 _ (by omega), if_neg c1, if_neg (by omega), if_pos c2]
        · rw [if_neg c2]
          show m_passes_61 (nI o) (nI (bN fo) + nI 0) f a = _
          rw [nI_add, p61 _ (by omega)]
          unfold psB
          rw [if_neg c1, if_pos (by omega), Nat.add_zero]
      unfold m_passes_22
      rw [cd, ml30, ibn hd2 (by decide), chk_t, h30]
      cases fo with
      | false => rw [if_pos (show zI false = 0 from rfl)]; exact p36
      | true => rw [if_neg (show ¬ zI true = 0 by decide)]; exact p36
    by_cases c2 : o = 11
    · rw [if_pos c2]; exact p22 (Or.inl c2)
    · rw [if_neg c2]
      by_cases c3 : o = 14
      · rw [if_pos c3]; exact p22 (Or.inr c3)
      · rw [if_neg c3]
        show m_passes_61 (nI o) (nI 0) f a = _
        rw [p61 0 (by omega)]
        unfold psB
        rw [if_neg c1, if_neg c2, if_neg c3]
def nxA (a : MA) (d pc : Nat) : MA := u2 (u2 a 28 0 (a 28 0 + 1)) 20 (4000 + d) (nI (pc + 1))
theorem mm_stepSerial (hn : f 1350 = nI n) (hn2 : n ≤ 1500) (hd : a 19 100 = nI (d + 1)) (hd2 : d < 40) (hp : f 1366 = nI pr) (hp2 : pr ≤ 300) (ho : o < 15) (h30 : a 30 d = zI fo) (h31 : a 31 d = zI fk) (hpc : a 20 (4000 + d) = nI pc) (hpc2 : pc < 500) (h12 : a 12 pc = nI o) :
    m_stepSerial f a = if psB o n d pr fo fk = true then some (0, u1 f 1349 1, a) else if o = 11 ∨ o = 14 then bnd (m_join (nI d) f (nxA a d pc)) (fun _ f13 a14 => m_stepSerial_86 (nI d) (nI (4000 + d)) (nI pc) (nI o) f13 a14) else m_stepSerial_86 (nI d) (nI (4000 + d)) (nI pc) (nI o) f (nxA a d pc) := by
  have n_ : ∀ k : Nat, k < 15 → (nI o = nI k ↔ o = k) := fun k hk => nI_eq (by omega) (by omega)
  have n11 : nI o = (11 : Int32) ↔ o = 11 := n_ 11 (by omega)
  have n14 : nI o = (14 : Int32) ↔ o = 14 := n_ 14 (by omega)
  have i100 : ib (100 : Int32) 101 = true := by decide
  have i0 : ib (0 : Int32) 2 = true := by decide
  have e4 : (4000 : Int32) + nI d = nI (4000 + d) := nI_add 4000 d
  have c4 : (nI (4000 + d)).toNatClampNeg = 4000 + d := cln_ (by omega)
  have cpc : (nI pc).toNatClampNeg = pc := cln_ (by omega)
  have e20 : u2 a 28 0 (a 28 0 + 1) 20 (4000 + d) = nI pc := by rw [u2_n (by omega)]; exact hpc
  unfold m_stepSerial
  simp only [ml19, i100, chk_t, show (100 : Int32).toNatClampNeg = 100 from rfl, hd, nI_pred, e4, ml20, ibn (show 4000 + d < 4040 by omega) (show 4040 < 2 ^ 31 by decide), c4, hpc, ml12, ibn hpc2 (show 500 < 2 ^ 31 by decide), cpc, h12, mm_passes hn hn2 hd hd2 hp hp2 ho h30 h31, bnd_s, ml28, i0, show (0 : Int32).toNatClampNeg = 0 from rfl, e20, nI_1, n11, n14, zI_0]
  rw [show u2 (u2 a 28 0 (a 28 0 + 1)) 20 (4000 + d) (nI (pc + 1)) = nxA a d pc from rfl]
  cases hps : psB o n d pr fo fk with
  | true => rw [if_neg (by decide), if_pos rfl]
  | false =>
    rw [if_pos rfl, if_neg (show ¬ false = true by decide)]
    by_cases c1 : o = 11
    · rw [if_pos c1, if_pos (Or.inl c1)]; rfl
    · rw [if_neg c1]
      by_cases c2 : o = 14
      · rw [if_pos c2, if_pos (Or.inr c2)]; rfl
      · rw [if_neg c2, if_neg (by omega)]
theorem s86_plain (hpl : m_plain (nI 100) (nI (4000 + d)) (nI pc) (u1 f 1352 (f 1352 + 1)) a = some (1, f', a')) : m_stepSerial_86 (nI d) (nI (4000 + d)) (nI pc) (nI o) f a = some (0, f', a') := by
  unfold m_stepSerial_86
  rw [nI_100, hpl, bnd_s, if_neg (by decide)]
theorem s86_join (hpc2 : pc < 500) (h12 : a 12 pc = nI 11) : m_stepSerial_86 (nI d) (nI (4000 + d)) (nI pc) (nI 11) f a = some (0, u1 f 1352 (f 1352 + 1), a) := by
  unfold m_stepSerial_86
  rw [nI_100, mp_other (op := 11) (by omega) hpc2 (by omega) h12, bnd_s, if_pos rfl, if_neg (by decide), if_neg (by decide), if_neg (by decide), if_neg (by decide)]
theorem s86_print {h : Nat} (hpc2 : pc < 500) (h12 : a 12 pc = nI 8) (hh : a 24 100 = nI (h + 1)) (h64 : h < 64) (hp : f 1366 = nI pr) (hp2 : pr < 300) :
    m_stepSerial_86 (nI d) (nI (4000 + d)) (nI pc) (nI 8) f a = some (0, u1 (u1 f 1352 (f 1352 + 1)) 1366 (nI (pr + 1)), u2 (u2 a 24 100 (nI h)) 40 pr (a 23 (6400 + h))) := by
  have e1 : u1 f 1352 (f 1352 + 1) 1366 = nI pr := by rw [u1_n (by decide)]; exact hp
  unfold m_stepSerial_86
  rw [nI_100, mp_other (op := 8) (by omega) hpc2 (by omega) h12, bnd_s, if_pos rfl, if_pos (by decide), mm_pop (by omega) hh h64, bnd_s, e1, ml40, ibn hp2 (by decide), chk_t, cln_ (show pr < 2 ^ 31 by omega), nI_1]
theorem mm_enS32 (hd : d < 40) : ∀ (r k N : Nat) (a : MA), k + r = 47 → r < N → m_enterSerial_32 N (nI p) (nI d) (nI k) f a = bnd (m_enter (nI 100) (nI p) (nI 100) f (clr47 a 33 d k)) (fun _ f6 a7 => some ((0 : Int32), f6, a7)) := by
  intro r
  induction r with
  | zero =>
    intro k N a hk hn
    obtain ⟨N, rfl⟩ : ∃ n', N = n' + 1 := ⟨N - 1, by omega⟩
    have e : clr47 a 33 d k = a := by
      funext j i
      unfold clr47
      rw [if_neg (by omega)]
    rw [m_enterSerial_32, if_pos (le47 (by omega)), e]; rfl
  | succ r ih =>
    intro k N a hk hn
    obtain ⟨N, rfl⟩ : ∃ n', N = n' + 1 := ⟨N - 1, by omega⟩
    have c2 : (nI (47 * d + k)).toNatClampNeg = 47 * d + k := cln_ (by omega)
    have e : clr47 (u2 a 33 (47 * d + k) 0) 33 d (k + 1) = clr47 a 33 d k := by
      funext j i
      unfold clr47
      by_cases c : j = 33 ∧ 47 * d + k ≤ i ∧ i < 47 * d + 47
      · rw [if_pos c]
        by_cases c2 : i = 47 * d + k
        · rw [if_neg (by omega), c.1, c2, u2_s]
        · rw [if_pos (by omega)]
      · rw [if_neg c, if_neg (by omega), u2_n (by omega)]
    rw [m_enterSerial_32, if_neg (ge47 (by omega)), ix47, ml33, ibn (show 47 * d + k < 1880 by omega) (by decide), chk_t, c2, nI_1, ih (k + 1) N _ (by omega) (by omega), e]
/-- behind an enter of the serial run -/
def enS0 (a : MA) (d : Nat) (fk : Bool) : MA := clr47 (u2 (u2 (u2 a 30 d 0) 31 d (zI fk)) 32 d 0) 33 d 0
def enS (a : MA) (d b b0 m : Nat) (q : Nat → Nat) (fk : Bool) : MA := entA (enS0 a d fk) 100 d 100 b b0 m q
theorem vnz (b : Bool) : vp_nar .boolean (zI b) = zI b := by cases b <;> rfl
theorem enS0_o {j i : Nat} (h : j ≠ 30 ∧ j ≠ 31 ∧ j ≠ 32 ∧ j ≠ 33) : enS0 a d fk j i = a j i := by
  unfold enS0 clr47
  rw [if_neg (fun z => h.2.2.2 z.1), u2_n (fun z => h.2.2.1 z.1), u2_n (fun z => h.2.1 z.1), u2_n (fun z => h.1 z.1)]
theorem mm_enterSerial (hd : d < 40) (hp : p < 8) (hm : m ≤ 3) (h19 : a 19 100 = nI d) (h15 : a 15 p = nI b0) (h16 : a 16 p = nI m) (h24 : a 24 100 = nI (b + m)) (hb : b + m ≤ 64) (h17 : ∀ j, j < m → a 17 (3 * p + j) = nI (q j) ∧ q j < 26) :
    m_enterSerial (nI p) (zI fk) f a = some (0, f, enS a d b b0 m q fk) := by
  have i100 : ib (100 : Int32) 101 = true := by decide
  have cd : (nI d).toNatClampNeg = d := cln_ (by omega)
  unfold m_enterSerial
  rw [ml19, i100, chk_t, show (100 : Int32).toNatClampNeg = 100 from rfl, h19, ml30, ml31, ml32, ibn hd (by decide), chk_t, chk_t, chk_t, cd, vnz0, vnz]
  show m_enterSerial_32 1000000 (nI p) (nI d) (nI 0) f _ = _
  rw [mm_enS32 hd 47 0 1000000 _ (by omega) (by omega)]
  show bnd (m_enter (nI 100) (nI p) (nI 100) f (enS0 a d fk)) _ = _
  have o_ : ∀ j i, j ≠ 30 ∧ j ≠ 31 ∧ j ≠ 32 ∧ j ≠ 33 → enS0 a d fk j i = a j i := fun j i h => enS0_o h
  rw [mm_enter (by omega) hd (by omega) hp hm ((o_ _ _ (by decide)).trans h19) ((o_ _ _ (by decide)).trans h15) ((o_ _ _ (by decide)).trans h16) ((o_ _ _ (by decide)).trans h24) hb (fun j hj => by rw [o_ _ _ (by decide)]; exact h17 j hj)]
  rfl
theorem s86_call (hd : d + 1 < 40) (hpc2 : pc < 500) (h12 : a 12 pc = nI 9) (h13 : a 13 pc = nI p) (hp : p < 8) (hm : m ≤ 3) (h19 : a 19 100 = nI (d + 1)) (h15 : a 15 p = nI b0) (h16 : a 16 p = nI m) (h24 : a 24 100 = nI (b + m)) (hb : b + m ≤ 64) (h17 : ∀ j, j < m → a 17 (3 * p + j) = nI (q j) ∧ q j < 26) :
    m_stepSerial_86 (nI d) (nI (4000 + d)) (nI pc) (nI 9) f a = some (0, u1 f 1352 (f 1352 + 1), enS a (d + 1) b b0 m q false) := by
  unfold m_stepSerial_86
  rw [nI_100, mp_other (op := 9) (by omega) hpc2 (by omega) h12, bnd_s, if_pos rfl, if_neg (by decide), if_pos (by decide), cln_ (show pc < 2 ^ 31 by omega), ml13, ibn hpc2 (by decide), chk_t, h13]
  show bnd (m_enterSerial (nI p) (zI false) _ _) _ = _
  rw [mm_enterSerial hd hp hm h19 h15 h16 h24 hb h17]; rfl
/-- what a fork lays down for its end -/
def fkA (a : MA) (d s : Nat) (tm : Int32) : MA := u2 (u2 (u2 a 30 d 1) 34 (d + 1) (nI s)) 35 (d + 1) tm
theorem s86_fork (hd : d + 1 < 40) (hpc2 : pc < 500) (h12 : a 12 pc = nI 10) (h13 : a 13 pc = nI p) (hp : p < 8) (hm : m ≤ 3) (h19 : a 19 100 = nI (d + 1)) (h15 : a 15 p = nI b0) (h16 : a 16 p = nI m) (h24 : a 24 100 = nI (b + m)) (hb : b + m ≤ 64) (h17 : ∀ j, j < m → a 17 (3 * p + j) = nI (q j) ∧ q j < 26) (hn : f 1350 = nI n) (hn2 : n < 1500) (hs : f 1351 = nI (n - 1)) (h0 : 0 < n) :
    m_stepSerial_86 (nI d) (nI (4000 + d)) (nI pc) (nI 10) f a = some (0, u1 (u1 (u1 f 1352 (f 1352 + 1)) 1350 (nI (n + 1))) 1351 (nI n), enS (sfA (fkA a d (n - 1) (f 1352 + 1)) n (n - 1)) (d + 1) b b0 m q true) := by
  have e1 : u1 f 1352 (f 1352 + 1) 1351 = nI (n - 1) := by rw [u1_n (by decide)]; exact hs
  have e2 : u1 f 1352 (f 1352 + 1) 1350 = nI n := by rw [u1_n (by decide)]; exact hn
  have o_ : ∀ j i, j ≠ 29 → j ≠ 30 → j ≠ 34 → j ≠ 35 → sfA (fkA a d (n - 1) (f 1352 + 1)) n (n - 1) j i = a j i := by
    intro j i h1 h2 h3 h4
    rw [sfA_o h1]
    unfold fkA
    rw [u2_n (fun z => h4 z.1), u2_n (fun z => h3 z.1), u2_n (fun z => h2 z.1)]
  unfold m_stepSerial_86
  rw [nI_100, mp_other (op := 10) (by omega) hpc2 (by omega) h12, bnd_s, if_pos rfl, if_neg (by decide), if_neg (by decide), if_pos (by decide), nI_1, cln_ (show d < 2 ^ 31 by omega), cln_ (show d + 1 < 2 ^ 31 by omega), ml30, ml34, ml35, ibn (show d < 40 by omega) (by decide), chk_t, ibn hd (by decide), chk_t, chk_t, e1, vnz1, u1_s]
  show bnd (m_strandFrom (nI (n - 1)) _ (fkA a d (n - 1) (f 1352 + 1))) _ = _
  rw [mm_strandFrom e2 hn2 (by omega), bnd_s, cln_ (show pc < 2 ^ 31 by omega), ml13, ibn hpc2 (by decide), chk_t, o_ _ _ (by decide) (by decide) (by decide) (by decide), h13]
  show bnd (m_enterSerial (nI p) (zI true) _ _) _ = _
  rw [mm_enterSerial hd hp hm (by rw [o_ _ _ (by decide) (by decide) (by decide) (by decide)]; exact h19) (by rw [o_ _ _ (by decide) (by decide) (by decide) (by decide)]; exact h15) (by rw [o_ _ _ (by decide) (by decide) (by decide) (by decide)]; exact h16) (by rw [o_ _ _ (by decide) (by decide) (by decide) (by decide)]; exact h24) hb (fun j hj => by rw [o_ _ _ (by decide) (by decide) (by decide) (by decide)]; exact h17 j hj)]
  rfl
/-- an end: the root, a called one, a forked one -/
theorem s86_end0 (hpc2 : pc < 500) (h12 : a 12 pc = nI 14) (h19 : a 19 100 = nI 1) (h31 : a 31 0 = 0) : m_stepSerial_86 (nI 0) (nI 4000) (nI pc) (nI 14) f a = some (0, u1 (u1 (u1 f 1352 (f 1352 + 1)) 1348 1) 1353 (f 1352 + 1), u2 a 19 100 (nI 0)) := by
  have i100 : ib (100 : Int32) 101 = true := by decide
  have e1 : nI 1 - 1 = nI 0 := rfl
  unfold m_stepSerial_86
  rw [nI_100, mp_other (op := 14) (by omega) hpc2 (by omega) h12, bnd_s, if_pos rfl, if_neg (by decide), if_neg (by decide), if_neg (by decide), if_pos (by decide), ← nI_100, ml19, i100, chk_t, chk_t, show (100 : Int32).toNatClampNeg = 100 from rfl, h19, e1, show (nI 0).toNatClampNeg = 0 from rfl, ml31, show ib (nI 0) 40 = true from by decide, chk_t, u2_n (by omega), if_pos h31, if_pos (show nI 0 = 0 from rfl), u1_s, if_neg (by decide), u1_n (by decide), u1_s]
theorem s86_endC (hd : d < 40) (h0 : d ≠ 0) (hpc2 : pc < 500) (h12 : a 12 pc = nI 14) (h19 : a 19 100 = nI (d + 1)) (h31 : a 31 d = 0) : m_stepSerial_86 (nI d) (nI (4000 + d)) (nI pc) (nI 14) f a = some (0, u1 (u1 (u1 f 1352 (f 1352 + 1)) 1348 0) 1353 0, u2 a 19 100 (nI d)) := by
  have i100 : ib (100 : Int32) 101 = true := by decide
  unfold m_stepSerial_86
  rw [nI_100, mp_other (op := 14) (by omega) hpc2 (by omega) h12, bnd_s, if_pos rfl, if_neg (by decide), if_neg (by decide), if_neg (by decide), if_pos (by decide), ← nI_100, ml19, i100, chk_t, chk_t, show (100 : Int32).toNatClampNeg = 100 from rfl, h19, nI_pred, cln_ (show d < 2 ^ 31 by omega), ml31, ibn hd (by decide), chk_t, u2_n (by omega), if_pos h31, if_neg (nI_ne0 (by omega) (by omega)), u1_s, if_pos rfl]
theorem s86_endF {u : Nat} (hd : d + 1 < 40) (hpc2 : pc < 500) (h12 : a 12 pc = nI 14) (h19 : a 19 100 = nI (d + 2)) (h31 : ¬ a 31 (d + 1) = 0) (hf : f 1351 = nI s) (hfn : f 1350 = nI n) (hs : s < n) (hn : n < 1500) (hu : u < n) (h34 : a 34 (d + 1) = nI u) :
    m_stepSerial_86 (nI (d + 1)) (nI (4000 + (d + 1))) (nI pc) (nI 14) f a = some (0, u1 (u1 (u1 (u1 (u1 (u1 f 1352 (f 1352 + 1)) 1350 (nI (n + 1))) 1351 (nI n)) 1352 (a 35 (d + 1))) 1348 0) 1353 0,
      sfA (putB (gb47 (u2 (u2 a 19 100 (nI (d + 1))) 32 d (tmx (a 32 d) (f 1352 + 1))) d s 0) 33 (47 * d) s) n u) := by
  have i100 : ib (100 : Int32) 101 = true := by decide
  unfold m_stepSerial_86
  rw [nI_100, mp_other (op := 14) (by omega) hpc2 (by omega) h12, bnd_s, if_pos rfl, if_neg (by decide), if_neg (by decide), if_neg (by decide), if_pos (by decide), ← nI_100, ml19, i100, chk_t, chk_t, show (100 : Int32).toNatClampNeg = 100 from rfl, h19, nI_pred, cln_ (show d + 1 < 2 ^ 31 by omega), ml31, ibn hd (by decide), chk_t, u2_n (by omega), if_neg h31]
  rw [mm_goBack (s := s) (n := n) (u := u) (by rw [u1_n (by decide)]; exact hf) (by rw [u1_n (by decide)]; exact hfn) hs hn hd hu (by rw [u2_n (by omega)]; exact h34), bnd_s, if_neg (nI_ne0 (by omega) (by omega)), u1_s, if_pos rfl, u1_s, u2_n (show ¬ (35 = 19 ∧ d + 1 = 100) by omega), u2_n (show ¬ (32 = 19 ∧ d = 100) by omega)]
end MQ
