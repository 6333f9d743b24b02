set_option maxRecDepth 100000
/-! a run is begun: the reference, and both -/
def bA (a : MA) (c : Nat) : MA := fun j i => if j = 26 ∧ c ≤ i ∧ i < 32 then a 18 i else if j = 38 ∧ c ≤ i ∧ i < 32 then 0 else a j i
def b9A (a : MA) (c : Nat) : MA := fun j i => if (j = 36 ∨ j = 37) ∧ c ≤ i ∧ i < 1504 then 0 else a j i
section MB
variable {f : MF} {a : MA} {P : PD} {b0 : Nat} {q : Nat → Nat}
theorem mb_clr : ∀ (m k N : Nat) (a : MA), k + m = 47 → m < N → m_strandFrom_17 N (-1) (nI 0) (nI k) f a = some (nI 0, f, clr47 a 29 0 k) := by
  intro m
  induction m with
  | zero =>
    intro k N a h1 h2
    obtain ⟨M, rfl⟩ : ∃ M, N = M + 1 := ⟨N - 1, by omega⟩
    rw [m_strandFrom_17, if_pos (show (47 : Int32) ≤ nI k from (nI_leI (a := 47) (by decide) (by omega)).mpr (by omega)), if_pos rfl]
    have e : clr47 a 29 0 k = a := by
      funext j i
      unfold clr47
      rw [if_neg (by omega)]
    rw [e]
  | succ m ih =>
    intro k N a h1 h2
    obtain ⟨M, rfl⟩ : ∃ M, N = M + 1 := ⟨N - 1, by omega⟩
    have ix : (47 : Int32) * nI 0 + nI k = nI k := by
      rw [ix47]; congr 1; omega
    have e : clr47 (u2 a 29 k 0) 29 0 (k + 1) = clr47 a 29 0 k := by
      funext j i
      unfold clr47
      by_cases z : j = 29 ∧ i = k
      · rw [if_neg (by omega), z.1, z.2, u2_s, if_pos (by omega)]
      · by_cases z2 : j = 29 ∧ 47 * 0 + k ≤ i ∧ i < 47 * 0 + 47
        · rw [if_pos (by omega), if_pos z2]
        · rw [if_neg (by omega), if_neg z2, u2_n z]
    rw [m_strandFrom_17, if_neg (show ¬ (47 : Int32) ≤ nI k from fun z => by have := (nI_leI (a := 47) (by decide) (by omega)).mp z; omega), if_pos rfl, ix, ml29, ibn (show k < 70500 by omega) (by decide), chk_t, cln_ (show k < 2 ^ 31 by omega), nI_1, ih (k + 1) M _ (by omega) (by omega), e]
theorem mb_86 : ∀ (m c N : Nat) (a : MA), c + m = 32 → m < N → m_begin_86 N (nI c) f a = m_begin_119 1000000 0 f (bA a c) := by
  intro m
  induction m with
  | zero =>
    intro c N a h1 h2
    obtain ⟨M, rfl⟩ : ∃ M, N = M + 1 := ⟨N - 1, by omega⟩
    rw [m_begin_86, if_pos (show (32 : Int32) ≤ nI c from (nI_leI (a := 32) (by decide) (by omega)).mpr (by omega))]
    have e : bA a c = a := by
      funext j i
      unfold bA
      rw [if_neg (by omega), if_neg (by omega)]
    rw [e]
  | succ m ih =>
    intro c N a h1 h2
    obtain ⟨M, rfl⟩ : ∃ M, N = M + 1 := ⟨N - 1, by omega⟩
    have hc : c < 32 := by omega
    have e : bA (u2 (u2 a 26 c (a 18 c)) 38 c 0) (c + 1) = bA a c := by
      funext j i
      unfold bA
      have e18 : u2 (u2 a 26 c (a 18 c)) 38 c 0 18 i = a 18 i := by rw [u2_n (by omega), u2_n (by omega)]
      rw [e18]
      by_cases z : j = 26 ∧ i = c
      · rw [if_neg (by omega), if_neg (by omega), z.1, z.2, u2_n (by omega), u2_s, if_pos (by omega)]
      · by_cases z1 : j = 38 ∧ i = c
        · rw [if_neg (by omega), if_neg (by omega), z1.1, z1.2, u2_s, if_neg (by omega), if_pos (by omega)]
        · by_cases z2 : j = 26 ∧ c ≤ i ∧ i < 32
          · rw [if_pos (by omega), if_pos z2]
          · rw [if_neg (show ¬ (j = 26 ∧ c + 1 ≤ i ∧ i < 32) by omega), if_neg z2]
            by_cases z3 : j = 38 ∧ c ≤ i ∧ i < 32
            · rw [if_pos (by omega), if_pos z3]
            · rw [if_neg (show ¬ (j = 38 ∧ c + 1 ≤ i ∧ i < 32) by omega), if_neg z3, u2_n z1, u2_n z]
    rw [m_begin_86, if_neg (show ¬ (32 : Int32) ≤ nI c from fun z => by have := (nI_leI (a := 32) (by decide) (by omega)).mp z; omega), ml18, ml26, ml38, ibn (show c < 32 by omega) (by decide), chk_t, ibn (show c < 64 by omega) (by decide), chk_t, chk_t, cln_ (show c < 2 ^ 31 by omega), vnz0, nI_1, ih (c + 1) M _ (by omega) (by omega), e]
theorem mb_119 : ∀ (m c N : Nat) (a : MA), c + m = 1504 → m < N → m_begin_119 N (nI c) f a = bnd (m_strandFrom (-1 : Int32) f (b9A a c)) (fun r5 f6 a7 => bnd (m_enterSerial (0 : Int32) (0 : Int32) (u1 f6 1351 r5) a7) (fun _ f10 a11 => some ((1 : Int32), f10, a11))) := by
  intro m
  induction m with
  | zero =>
    intro c N a h1 h2
    obtain ⟨M, rfl⟩ : ∃ M, N = M + 1 := ⟨N - 1, by omega⟩
    rw [m_begin_119, if_pos (show (1504 : Int32) ≤ nI c from (nI_leI (a := 1504) (by decide) (by omega)).mpr (by omega))]
    have e : b9A a c = a := by
      funext j i
      unfold b9A
      rw [if_neg (by omega)]
    rw [e]
  | succ m ih =>
    intro c N a h1 h2
    obtain ⟨M, rfl⟩ : ∃ M, N = M + 1 := ⟨N - 1, by omega⟩
    have e : b9A (u2 (u2 a 36 c 0) 37 c 0) (c + 1) = b9A a c := by
      funext j i
      unfold b9A
      by_cases z : (j = 36 ∨ j = 37) ∧ i = c
      · rw [if_neg (by omega), if_pos (by omega)]
        rcases z.1 with y | y
        · rw [y, z.2, u2_n (by omega), u2_s]
        · rw [y, z.2, u2_s]
      · by_cases z2 : (j = 36 ∨ j = 37) ∧ c ≤ i ∧ i < 1504
        · rw [if_pos (by omega), if_pos z2]
        · rw [if_neg (by omega), if_neg z2, u2_n (by omega), u2_n (by omega)]
    rw [m_begin_119, if_neg (show ¬ (1504 : Int32) ≤ nI c from fun z => by have := (nI_leI (a := 1504) (by decide) (by omega)).mp z; omega), ml36, ml37, ibn (show c < 1504 by omega) (by decide), chk_t, chk_t, cln_ (show c < 2 ^ 31 by omega), nI_1, ih (c + 1) M _ (by omega) (by omega), e]
def mbF (f : MF) : MF := u1 (u1 (u1 (u1 (u1 (u1 (u1 (u1 (u1 (u1 (u1 f 1300 0) 1347 1) 1348 0) 1349 0) 1350 0) 1352 0) 1353 0) 1364 0) 1366 0) 1350 (nI 1)) 1351 (nI 0)
def mbA0 (a : MA) : MA := clr47 (b9A (bA (u2 (u2 (u2 (u2 a 27 0 0) 28 0 0) 19 100 0) 24 100 0) 0) 0) 29 0 0
theorem mbA0_o {j : Nat} (h : ¬ (j = 19 ∨ j = 24 ∨ (26 ≤ j ∧ j ≤ 29) ∨ (36 ≤ j ∧ j ≤ 38))) : mbA0 a j = a j := by
  funext i
  unfold mbA0 clr47 b9A bA
  rw [if_neg (by omega), if_neg (by omega), if_neg (by omega), if_neg (by omega), u2_n (by omega), u2_n (by omega), u2_n (by omega), u2_n (by omega)]
theorem m_begin0 (h : f 1328 = 0) : m_begin f a = some (0, u1 f 1300 0, a) := by
  unfold m_begin
  rw [if_pos (by rw [u1_n (by decide)]; exact h)]
theorem mm_begin (h : ¬ f 1328 = 0) (h15 : a 15 0 = nI b0) (h16 : a 16 0 = nI 0) : m_begin f a = some (1, mbF f, enS (mbA0 a) 0 0 b0 0 q false) := by
  unfold m_begin
  rw [if_neg (by rw [u1_n (by decide)]; exact h), ml27, ml28, ml19, ml24, show ib (0 : Int32) 2 = true from by decide, chk_t, chk_t, show ib (100 : Int32) 101 = true from by decide, chk_t, chk_t]
  show m_begin_86 1000000 (nI 0) _ _ = _
  rw [mb_86 32 0 1000000 _ (by omega) (by omega)]
  show m_begin_119 1000000 (nI 0) _ _ = _
  rw [mb_119 1504 0 1000000 _ (by omega) (by omega)]
  unfold m_strandFrom
  rw [u1_n (by decide), u1_n (by decide), u1_n (by decide), u1_n (by decide), u1_s]
  show bnd (m_strandFrom_17 1000000 (-1) (nI 0) (nI 0) _ _) _ = _
  rw [mb_clr 47 0 1000000 _ (by omega) (by omega), bnd_s]
  show bnd (m_enterSerial (nI 0) (zI false) (mbF f) (mbA0 a)) _ = _
  rw [mm_enterSerial (p := 0) (d := 0) (b := 0) (m := 0) (b0 := b0) (q := q) (by omega) (by omega) (by omega) ?_ (by rw [mbA0_o (by omega)]; exact h15) (by rw [mbA0_o (by omega)]; exact h16) ?_ (by omega) (fun j hj => by omega), bnd_s]
  · unfold mbA0 clr47 b9A bA
    rw [if_neg (by omega), if_neg (by omega), if_neg (by omega), if_neg (by omega), u2_n (by omega)]
    show u2 _ 19 100 0 19 100 = _
    rw [u2_s]; rfl
  · unfold mbA0 clr47 b9A bA
    rw [if_neg (by omega), if_neg (by omega), if_neg (by omega), if_neg (by omega)]
    show u2 _ 24 100 0 24 100 = _
    rw [u2_s]; rfl
end MB
