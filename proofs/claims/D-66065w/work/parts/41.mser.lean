set_option maxRecDepth 100000
/-! the reference's serial methods -/
theorem vnz0 : vp_nar .boolean (0 : Int32) = 0 := rfl
theorem vnz1 : vp_nar .boolean (1 : Int32) = 1 := rfl
def jn47 (a : MA) (s d k0 : Nat) : MA := fun j i => if j = 29 ∧ 47 * s + k0 ≤ i ∧ i < 47 * s + 47 then a 29 i ||| a 33 (47 * d + (i - 47 * s)) else if j = 33 ∧ 47 * d + k0 ≤ i ∧ i < 47 * d + 47 then 0 else a j i
def gb47 (a : MA) (up s k0 : Nat) : MA := fun j i => if j = 33 ∧ 47 * up + k0 ≤ i ∧ i < 47 * up + 47 then a 33 i ||| a 29 (47 * s + (i - 47 * up)) else a j i
section MS
variable {f : MF} {a : MA} {t h d s c n : Nat} {v : Int32}
theorem mm_join68 (hf : f 1351 = nI s) (hs : s < 1500) (hd : d < 40) : ∀ (m k n : Nat) (a : MA), k + m = 47 → m < n → m_join_68 n (nI d) (nI k) f a = some (0, f, jn47 a s d k) := by
  intro m
  induction m with
  | zero =>
    intro k n a hk hn
    obtain ⟨n, rfl⟩ : ∃ n', n = n' + 1 := ⟨n - 1, by omega⟩
    have e : jn47 a s d k = a := by
      funext j i
      unfold jn47
      rw [if_neg (by omega), if_neg (by omega)]
    rw [m_join_68, if_pos (le47 (by omega)), e]
  | succ m ih =>
    intro k n a hk hn
    obtain ⟨n, rfl⟩ : ∃ n', n = n' + 1 := ⟨n - 1, by omega⟩
    have c1 : (nI (47 * s + k)).toNatClampNeg = 47 * s + k := cln_ (by omega)
    have c2 : (nI (47 * d + k)).toNatClampNeg = 47 * d + k := cln_ (by omega)
    rw [m_join_68, if_neg (ge47 (by omega)), hf, ix47, ix47, ml29, ml33, ibn (show 47 * s + k < 70500 by omega) (by decide), chk_t, ibn (show 47 * d + k < 1880 by omega) (by decide), chk_t, chk_t, chk_t, c1, c2, nI_1, ih (k + 1) n _ (by omega) (by omega)]
    congr 3
    funext j i
    unfold jn47
    by_cases c3 : j = 29 ∧ 47 * s + k ≤ i ∧ i < 47 * s + 47
    · rw [if_pos c3]
      by_cases c4 : i = 47 * s + k
      · rw [if_neg (by omega), if_neg (by omega), c3.1, c4, u2_n (by omega), u2_s]
        congr 2
        omega
      · rw [if_pos (by omega), u2_n (by omega), u2_n (by omega), u2_n (by omega), u2_n (by omega)]
    · rw [if_neg c3, if_neg (by omega)]
      by_cases c5 : j = 33 ∧ 47 * d + k ≤ i ∧ i < 47 * d + 47
      · rw [if_pos c5]
        by_cases c4 : i = 47 * d + k
        · rw [if_neg (by omega), c5.1, c4, u2_s]
        · rw [if_pos (by omega)]
      · rw [if_neg c5, if_neg (by omega), u2_n (by omega), u2_n (by omega)]
/-- the later of two times -/
def tmx (x y : Int32) : Int32 := if x ≤ y then y else x
theorem mm_join0 (hd : d < 40) (hk : a 30 d = 0) : m_join (nI d) f a = some (0, u1 f 1352 (tmx (f 1352) (a 32 d)), u2 a 32 d 0) := by
  have c1 : (nI d).toNatClampNeg = d := cln_ (by omega)
  have c2 : ∀ y, m_join_27 (nI d) y f a = some (0, u1 f 1352 y, u2 a 32 d 0) := by
    intro y
    unfold m_join_27
    rw [c1, ml32, ml30, ibn hd (by decide), chk_t, chk_t, u2_n (by omega), if_pos hk]
  unfold m_join tmx
  rw [c1, ml32, ibn hd (by decide), chk_t, chk_t]
  by_cases q : f 1352 ≤ a 32 d
  · rw [if_pos q, if_pos q, c2]
  · rw [if_neg q, if_neg q, c2]
theorem mm_join1 (hd : d < 40) (hk : ¬ a 30 d = 0) (hf : f 1350 = nI n) (hf2 : f 1351 = nI (n - 1)) (h0 : 0 < n) (hn : n < 1500) :
    m_join (nI d) f a = some (0, u1 (u1 (u1 f 1352 (tmx (f 1352) (a 32 d))) 1350 (nI (n + 1))) 1351 (nI n), jn47 (sfA (u2 (u2 a 32 d 0) 30 d 0) n (n - 1)) n d 0) := by
  have c1 : (nI d).toNatClampNeg = d := cln_ (by omega)
  have c2 : ∀ y, m_join_27 (nI d) y f a = some (0, u1 (u1 (u1 f 1352 y) 1350 (nI (n + 1))) 1351 (nI n), jn47 (sfA (u2 (u2 a 32 d 0) 30 d 0) n (n - 1)) n d 0) := by
    intro y
    unfold m_join_27
    rw [c1, ml32, ml30, ibn hd (by decide), chk_t, chk_t, u2_n (by omega), if_neg hk, chk_t, u1_n (by decide), hf2, vnz0, mm_strandFrom (s := n) (by rw [u1_n (by decide)]; exact hf) hn (by omega), bnd_s]
    show m_join_68 1000000 (nI d) (nI 0) _ _ = _
    rw [mm_join68 (s := n) u1_s hn hd 47 0 1000000 _ (by omega) (by omega)]
  unfold m_join tmx
  rw [c1, ml32, ibn hd (by decide), chk_t, chk_t]
  by_cases q : f 1352 ≤ a 32 d
  · rw [if_pos q, if_pos q, c2]
  · rw [if_neg q, if_neg q, c2]
theorem jn47_new {A : MA} {x : Nat} (hx : x < 1504) (hs : s < 1500) : hsb (jn47 A s d 0 29) (47 * s) x = (hsb (A 29) (47 * s) x || hsb (A 33) (47 * d) x) := by
  unfold hsb jn47
  rw [if_pos (by omega), b_or]
  congr 3
  omega
theorem jn47_old {A : MA} {x y : Nat} (hy : y ≠ s) (hx : x < 1504) : hsb (jn47 A s d 0 29) (47 * y) x = hsb (A 29) (47 * y) x := by
  unfold hsb jn47
  rw [if_neg (by omega), if_neg (by omega)]
theorem jn47_j {A : MA} {x : Nat} (hx : x < 1504) : hsb (jn47 A s d 0 33) (47 * d) x = false := by
  unfold hsb jn47
  rw [if_neg (by omega), if_pos (by omega)]
  exact b_0 _
theorem jn47_jo {A : MA} {x y : Nat} (hy : y ≠ d) (hx : x < 1504) : hsb (jn47 A s d 0 33) (47 * y) x = hsb (A 33) (47 * y) x := by
  unfold hsb jn47
  rw [if_neg (by omega), if_neg (by omega)]
theorem jn47_o {A : MA} {j : Nat} (h1 : j ≠ 29) (h2 : j ≠ 33) : jn47 A s d 0 j = A j := by
  funext i
  unfold jn47
  rw [if_neg (fun q => h1 q.1), if_neg (fun q => h2 q.1)]
theorem mm_gb38 {u : Nat} {tm : Int32} (hf : f 1351 = nI s) (hfn : f 1350 = nI n) (hs : s < n) (hn : n < 1500) (hd : d + 1 < 40) (hu : u < n) :
    ∀ (m k N : Nat) (a : MA), a 34 (d + 1) = nI u → a 35 (d + 1) = tm → k + m = 47 → m < N → m_goBack_38 N (nI (d + 1)) (nI d) (nI k) f a = some (0, u1 (u1 (u1 f 1350 (nI (n + 1))) 1351 (nI n)) 1352 tm, sfA (putB (gb47 a d s k) 33 (47 * d) s) n u) := by
  intro m
  induction m with
  | zero =>
    intro k N a h34 h35 hk hn2
    obtain ⟨N, rfl⟩ : ∃ n', N = n' + 1 := ⟨N - 1, by omega⟩
    have c1 : (nI (d + 1)).toNatClampNeg = d + 1 := cln_ (by omega)
    have e : gb47 a d s k = a := by
      funext j i
      unfold gb47
      rw [if_neg (by omega)]
    have p34 : putB a 33 (47 * d) s 34 (d + 1) = nI u := by unfold putB; rw [u2_n (by omega)]; exact h34
    rw [m_goBack_38, if_pos (le47 (by omega)), hf, iy47, mm_put ml33 (by omega) (by omega) (by omega), bnd_s, c1, ml34, ml35, ibn hd (by decide), chk_t, p34, mm_strandFrom hfn hn hu, bnd_s, chk_t, e]
    have e35 : sfA (putB a 33 (47 * d) s) n u 35 (d + 1) = tm := by
      rw [sfA_o (by decide)]
      unfold putB
      rw [u2_n (by omega)]
      exact h35
    rw [e35]
  | succ m ih =>
    intro k N a h34 h35 hk hn2
    obtain ⟨N, rfl⟩ : ∃ n', N = n' + 1 := ⟨N - 1, by omega⟩
    have c1 : (nI (47 * s + k)).toNatClampNeg = 47 * s + k := cln_ (by omega)
    have c2 : (nI (47 * d + k)).toNatClampNeg = 47 * d + k := cln_ (by omega)
    rw [m_goBack_38, if_neg (ge47 (by omega)), hf, ix47, ix47, ml29, ml33, ibn (show 47 * d + k < 1880 by omega) (by decide), chk_t, ibn (show 47 * s + k < 70500 by omega) (by decide), chk_t, chk_t, c1, c2, nI_1, ih (k + 1) N _ (by rw [u2_n (by omega)]; exact h34) (by rw [u2_n (by omega)]; exact h35) (by omega) (by omega)]
    congr 5
    funext j i
    unfold gb47
    by_cases c3 : j = 33 ∧ 47 * d + k ≤ i ∧ i < 47 * d + 47
    · rw [if_pos c3]
      by_cases c4 : i = 47 * d + k
      · rw [if_neg (by omega), c3.1, c4, u2_s]
        congr 2
        omega
      · rw [if_pos (by omega), u2_n (by omega), u2_n (by omega)]
    · rw [if_neg c3, if_neg (by omega), u2_n (by omega)]
theorem mm_goBack {u : Nat} (hf : f 1351 = nI s) (hfn : f 1350 = nI n) (hs : s < n) (hn : n < 1500) (hd : d + 1 < 40) (hu : u < n) (h34 : a 34 (d + 1) = nI u) :
    m_goBack (nI (d + 1)) f a = some (0, u1 (u1 (u1 f 1350 (nI (n + 1))) 1351 (nI n)) 1352 (a 35 (d + 1)), sfA (putB (gb47 (u2 a 32 d (tmx (a 32 d) (f 1352))) d s 0) 33 (47 * d) s) n u) := by
  have c1 : (nI d).toNatClampNeg = d := cln_ (by omega)
  have c2 : ∀ y, m_goBack_35 (nI (d + 1)) (nI d) y (nI d) f a = some (0, u1 (u1 (u1 f 1350 (nI (n + 1))) 1351 (nI n)) 1352 (a 35 (d + 1)), sfA (putB (gb47 (u2 a 32 d y) d s 0) 33 (47 * d) s) n u) := by
    intro y
    unfold m_goBack_35
    rw [c1, ml32, ibn (show d < 40 by omega) (by decide), chk_t]
    show m_goBack_38 1000000 (nI (d + 1)) (nI d) (nI 0) _ _ = _
    rw [mm_gb38 hf hfn hs hn hd hu 47 0 1000000 _ (by rw [u2_n (by omega)]; exact h34) (by rw [u2_n (by omega)]) (by omega) (by omega)]
  unfold m_goBack tmx
  rw [nI_pred, c1, ml32, ibn (show d < 40 by omega) (by decide), chk_t, chk_t]
  by_cases q : a 32 d ≤ f 1352
  · rw [if_pos q, if_pos q, c2]
  · rw [if_neg q, if_neg q, c2]
theorem gb47_j {A : MA} {x : Nat} (hx : x < 1504) : hsb (gb47 A d s 0 33) (47 * d) x = (hsb (A 33) (47 * d) x || hsb (A 29) (47 * s) x) := by
  unfold hsb gb47
  rw [if_pos (by omega), b_or]
  congr 3
  omega
theorem gb47_jo {A : MA} {x y : Nat} (hy : y ≠ d) (hx : x < 1504) : hsb (gb47 A d s 0 33) (47 * y) x = hsb (A 33) (47 * y) x := by
  unfold hsb gb47
  rw [if_neg (by omega)]
theorem gb47_o {A : MA} {j : Nat} (h2 : j ≠ 33) : gb47 A d s 0 j = A j := by
  funext i
  unfold gb47
  rw [if_neg (fun q => h2 q.1)]
end MS
