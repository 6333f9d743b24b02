set_option maxRecDepth 100000
/-! the reference's arrays: lengths; indices -/
theorem ml0 : mlen 0 = 400 := rfl
theorem ml1 : mlen 1 = 8 := rfl
theorem ml2 : mlen 2 = 8 := rfl
theorem ml3 : mlen 3 = 24 := rfl
theorem ml4 : mlen 4 = 8 := rfl
theorem ml5 : mlen 5 = 500 := rfl
theorem ml6 : mlen 6 = 500 := rfl
theorem ml7 : mlen 7 = 500 := rfl
theorem ml8 : mlen 8 = 200 := rfl
theorem ml9 : mlen 9 = 200 := rfl
theorem ml10 : mlen 10 = 1000 := rfl
theorem ml11 : mlen 11 = 40 := rfl
theorem ml12 : mlen 12 = 500 := rfl
theorem ml13 : mlen 13 = 500 := rfl
theorem ml14 : mlen 14 = 500 := rfl
theorem ml15 : mlen 15 = 8 := rfl
theorem ml16 : mlen 16 = 8 := rfl
theorem ml17 : mlen 17 = 24 := rfl
theorem ml18 : mlen 18 = 32 := rfl
theorem ml19 : mlen 19 = 101 := rfl
theorem ml20 : mlen 20 = 4040 := rfl
theorem ml21 : mlen 21 = 4040 := rfl
theorem ml22 : mlen 22 = 105040 := rfl
theorem ml23 : mlen 23 = 6464 := rfl
theorem ml24 : mlen 24 = 101 := rfl
theorem ml25 : mlen 25 = 101 := rfl
theorem ml26 : mlen 26 = 64 := rfl
theorem ml27 : mlen 27 = 2 := rfl
theorem ml28 : mlen 28 = 2 := rfl
theorem ml29 : mlen 29 = 70500 := rfl
theorem ml30 : mlen 30 = 40 := rfl
theorem ml31 : mlen 31 = 40 := rfl
theorem ml32 : mlen 32 = 40 := rfl
theorem ml33 : mlen 33 = 1880 := rfl
theorem ml34 : mlen 34 = 40 := rfl
theorem ml35 : mlen 35 = 40 := rfl
theorem ml36 : mlen 36 = 1504 := rfl
theorem ml37 : mlen 37 = 1504 := rfl
theorem ml38 : mlen 38 = 32 := rfl
theorem ml39 : mlen 39 = 128 := rfl
theorem ml40 : mlen 40 = 300 := rfl
theorem ml41 : mlen 41 = 600 := rfl
theorem ml42 : mlen 42 = 600 := rfl
theorem ml43 : mlen 43 = 600 := rfl
theorem ml44 : mlen 44 = 101 := rfl
theorem ix3 (t h : Nat) : (3 : Int32) * nI t + nI h = nI (3 * t + h) := by rw [show (3 : Int32) = nI 3 from rfl, pk_mul, nI_add]
theorem iy3 (t : Nat) : (3 : Int32) * nI t = nI (3 * t) := by rw [show (3 : Int32) = nI 3 from rfl, pk_mul]
theorem ix4 (t h : Nat) : (4 : Int32) * nI t + nI h = nI (4 * t + h) := by rw [show (4 : Int32) = nI 4 from rfl, pk_mul, nI_add]
theorem iy4 (t : Nat) : (4 : Int32) * nI t = nI (4 * t) := by rw [show (4 : Int32) = nI 4 from rfl, pk_mul]
theorem ix16 (t h : Nat) : (16 : Int32) * nI t + nI h = nI (16 * t + h) := by rw [show (16 : Int32) = nI 16 from rfl, pk_mul, nI_add]
theorem iy16 (t : Nat) : (16 : Int32) * nI t = nI (16 * t) := by rw [show (16 : Int32) = nI 16 from rfl, pk_mul]
theorem ix26 (t h : Nat) : (26 : Int32) * nI t + nI h = nI (26 * t + h) := by rw [show (26 : Int32) = nI 26 from rfl, pk_mul, nI_add]
theorem iy26 (t : Nat) : (26 : Int32) * nI t = nI (26 * t) := by rw [show (26 : Int32) = nI 26 from rfl, pk_mul]
theorem ix32 (t h : Nat) : (32 : Int32) * nI t + nI h = nI (32 * t + h) := by rw [show (32 : Int32) = nI 32 from rfl, pk_mul, nI_add]
theorem iy32 (t : Nat) : (32 : Int32) * nI t = nI (32 * t) := by rw [show (32 : Int32) = nI 32 from rfl, pk_mul]
theorem ix40 (t h : Nat) : (40 : Int32) * nI t + nI h = nI (40 * t + h) := by rw [show (40 : Int32) = nI 40 from rfl, pk_mul, nI_add]
theorem iy40 (t : Nat) : (40 : Int32) * nI t = nI (40 * t) := by rw [show (40 : Int32) = nI 40 from rfl, pk_mul]
theorem ix47 (t h : Nat) : (47 : Int32) * nI t + nI h = nI (47 * t + h) := by rw [show (47 : Int32) = nI 47 from rfl, pk_mul, nI_add]
theorem iy47 (t : Nat) : (47 : Int32) * nI t = nI (47 * t) := by rw [show (47 : Int32) = nI 47 from rfl, pk_mul]
theorem ix64 (t h : Nat) : (64 : Int32) * nI t + nI h = nI (64 * t + h) := by rw [show (64 : Int32) = nI 64 from rfl, pk_mul, nI_add]
theorem iy64 (t : Nat) : (64 : Int32) * nI t = nI (64 * t) := by rw [show (64 : Int32) = nI 64 from rfl, pk_mul]
theorem bnd_s {β : Type} (r : Int32) (f : MF) (a : MA) (q : Int32 → MF → MA → Option β) : bnd (some (r, f, a)) q = q r f a := rfl
theorem nI_100 : (100 : Int32) = nI 100 := rfl
theorem nI_m1 {u : Nat} (h : u < 2 ^ 31) : ¬ nI u = (-1 : Int32) := by
  intro q
  have := congrArg Int32.toInt q
  rw [nI_toInt h, show (-1 : Int32).toInt = -1 from rfl] at this
  omega
theorem ge47 {k : Nat} (h : k < 47) : ¬ (47 : Int32) ≤ nI k := nI_ge (b := 47) h (by decide)
theorem le47 {k : Nat} (h : k = 47) : (47 : Int32) ≤ nI k := by rw [h]; decide
section MR
variable {f : MF} {a : MA} {t h d s c : Nat} {v : Int32}
theorem mm_pop (ht : t ≤ 100) (hh : a 24 t = nI (h + 1)) (h64 : h < 64) : m_pop (nI t) f a = some (a 23 (64 * t + h), f, u2 a 24 t (nI h)) := by
  have c1 : (nI t).toNatClampNeg = t := cln_ (by omega)
  have c2 : (nI (64 * t + h)).toNatClampNeg = 64 * t + h := cln_ (by omega)
  unfold m_pop
  simp only [c1, hh, nI_pred, u2_s, ix64, ml24, ml23, ibn (show t < 101 by omega) (show 101 < 2 ^ 31 by decide), ibn (show 64 * t + h < 6464 by omega) (show 6464 < 2 ^ 31 by decide), chk_t, c2]
  rw [u2_n (by omega)]
theorem mm_give (ht : t ≤ 100) (hh : a 24 t = nI h) (h64 : h < 64) : m_give (nI t) v f a = some (0, f, u2 (u2 a 23 (64 * t + h) v) 24 t (nI (h + 1))) := by
  have c1 : (nI t).toNatClampNeg = t := cln_ (by omega)
  have c2 : (nI (64 * t + h)).toNatClampNeg = 64 * t + h := cln_ (by omega)
  have c3 : u2 a 23 (64 * t + h) v 24 t = nI h := by rw [u2_n (by omega)]; exact hh
  unfold m_give
  simp only [c1, hh, ix64, ml24, ml23, ibn (show t < 101 by omega) (show 101 < 2 ^ 31 by decide), ibn (show 64 * t + h < 6464 by omega) (show 6464 < 2 ^ 31 by decide), chk_t, c2, c3, nI_1]
theorem mm_put {j base len : Nat} (hl : mlen j = len) (hb : base + s / 32 < len) (hb2 : len ≤ 70500) (hs : s < 1504) : m_put j (nI base) (nI s) f a = some (0, f, putB a j base s) := by
  have e1 : nI s / (32 : Int32) = nI (s / 32) := pk_div (by omega) (by decide) (by decide)
  have e2 : nI s - nI (s / 32) * (32 : Int32) = nI (s % 32) := by rw [← e1]; exact pk_rem (by omega) (by decide) (by decide)
  have c2 : (nI (base + s / 32)).toNatClampNeg = base + s / 32 := cln_ (by omega)
  unfold m_put
  simp only [e1, e2, nI_add, hl, ibn hb (show len < 2 ^ 31 by omega), chk_t, c2]
  rfl
theorem mm_has {j base len : Nat} (hl : mlen j = len) (hb : base + s / 32 < len) (hb2 : len ≤ 70500) (hs : s < 1504) : m_has j (nI base) (nI s) f a = some (if hsb (a j) base s = true then 1 else 0, f, a) := by
  have e1 : nI s / (32 : Int32) = nI (s / 32) := pk_div (by omega) (by decide) (by decide)
  have e2 : nI s - nI (s / 32) * (32 : Int32) = nI (s % 32) := by rw [← e1]; exact pk_rem (by omega) (by decide) (by decide)
  have c2 : (nI (base + s / 32)).toNatClampNeg = base + s / 32 := cln_ (by omega)
  unfold m_has
  simp only [e1, e2, nI_add, hl, ibn hb (show len < 2 ^ 31 by omega), chk_t, c2, b_test _ (show s % 32 < 32 by omega)]
  unfold hsb
  by_cases q : bt (a j (base + s / 32)) (s % 32) = true
  · rw [if_pos q, if_pos q]
  · rw [if_neg q, if_neg q]
/-- a strand's row: copied, or cleared -/
def cpy47 (a : MA) (s from_ : Nat) (k0 : Nat) : MA := fun j i => if j = 29 ∧ 47 * s + k0 ≤ i ∧ i < 47 * s + 47 then a 29 (47 * from_ + (i - 47 * s)) else a j i
def clr47 (a : MA) (j0 s : Nat) (k0 : Nat) : MA := fun j i => if j = j0 ∧ 47 * s + k0 ≤ i ∧ i < 47 * s + 47 then 0 else a j i
theorem mm_sf_cpy {u : Nat} (hs : s < 1500) (hu : u < s) : ∀ (m k n : Nat) (a : MA), k + m = 47 → m < n → m_strandFrom_17 n (nI u) (nI s) (nI k) f a = some (nI s, f, putB (cpy47 a s u k) 29 (47 * s) u) := by
  intro m
  induction m with
  | zero =>
    intro k n a hk hn
    obtain ⟨n, rfl⟩ : ∃ n', n = n' + 1 := ⟨n - 1, by omega⟩
    have e : cpy47 a s u k = a := by
      funext j i
      unfold cpy47
      rw [if_neg (by omega)]
    rw [m_strandFrom_17, if_pos (le47 (by omega)), if_neg (nI_m1 (by omega)), iy47, mm_put ml29 (by omega) (by omega) (by omega), e]
    rfl
  | succ m ih =>
    intro k n a hk hn
    obtain ⟨n, rfl⟩ : ∃ n', n = n' + 1 := ⟨n - 1, by omega⟩
    have c1 : (nI (47 * u + k)).toNatClampNeg = 47 * u + k := cln_ (by omega)
    have c2 : (nI (47 * s + k)).toNatClampNeg = 47 * s + k := cln_ (by omega)
    rw [m_strandFrom_17, if_neg (ge47 (by omega)), if_neg (nI_m1 (by omega)), ix47, ix47, ml29, ibn (show 47 * u + k < 70500 by omega) (by decide), chk_t, ibn (show 47 * s + k < 70500 by omega) (by decide), chk_t, c1, c2, nI_1, ih (k + 1) n _ (by omega) (by omega)]
    congr 3
    congr 1
    funext j i
    unfold cpy47
    by_cases c3 : j = 29 ∧ 47 * s + k ≤ i ∧ i < 47 * s + 47
    · rw [if_pos c3]
      by_cases c4 : i = 47 * s + k
      · rw [if_neg (by omega), c3.1, c4, u2_s]
        congr 1
        omega
      · rw [if_pos (by omega), u2_n (by omega)]
    · rw [if_neg c3, if_neg (by omega), u2_n (by omega)]
theorem mm_sf_clr (hs : s < 1500) : ∀ (m k n : Nat) (a : MA), k + m = 47 → m < n → m_strandFrom_17 n (-1) (nI s) (nI k) f a = some (nI s, f, clr47 a 29 s k) := by
  intro m
  induction m with
  | zero =>
    intro k n a hk hn
    obtain ⟨n, rfl⟩ : ∃ n', n = n' + 1 := ⟨n - 1, by omega⟩
    have e : clr47 a 29 s k = a := by
      funext j i
      unfold clr47
      rw [if_neg (by omega)]
    rw [m_strandFrom_17, if_pos (le47 (by omega)), if_pos rfl, e]
  | succ m ih =>
    intro k n a hk hn
    obtain ⟨n, rfl⟩ : ∃ n', n = n' + 1 := ⟨n - 1, by omega⟩
    have c2 : (nI (47 * s + k)).toNatClampNeg = 47 * s + k := cln_ (by omega)
    rw [m_strandFrom_17, if_neg (ge47 (by omega)), if_pos rfl, ix47, ml29, ibn (show 47 * s + k < 70500 by omega) (by decide), chk_t, c2, nI_1, ih (k + 1) n _ (by omega) (by omega)]
    congr 3
    funext j i
    unfold clr47
    by_cases c3 : j = 29 ∧ 47 * s + k ≤ i ∧ i < 47 * s + 47
    · rw [if_pos c3]
      by_cases c4 : i = 47 * s + k
      · rw [if_neg (by omega), c3.1, c4, u2_s]
      · rw [if_pos (by omega)]
    · rw [if_neg c3, if_neg (by omega), u2_n (by omega)]
/-- a strand more -/
def sfA (a : MA) (s u : Nat) : MA := putB (cpy47 a s u 0) 29 (47 * s) u
theorem mm_strandFrom {u : Nat} (hf : f 1350 = nI s) (hs : s < 1500) (hu : u < s) : m_strandFrom (nI u) f a = some (nI s, u1 f 1350 (nI (s + 1)), sfA a s u) := by
  unfold m_strandFrom
  rw [hf, nI_1, show (0 : Int32) = nI 0 from rfl, mm_sf_cpy hs hu 47 0 1000000 _ (by omega) (by omega)]
  rfl
/-- .. what is before it -/
theorem sfA_new {u x : Nat} (hu : u < s) (hs : s < 1500) (hx : x < 1504) : hsb (sfA a s u 29) (47 * s) x = (hsb (a 29) (47 * u) x || decide (x = u)) := by
  unfold sfA
  rw [hsb_put (by omega) hx]
  congr 1
  · unfold hsb cpy47
    rw [if_pos (by omega)]
    congr 2
    omega
  · simp
theorem sfA_old {u x y : Nat} (hy : y ≠ s) (hu : u < s) (hs : s < 1500) (hx : x < 1504) : hsb (sfA a s u 29) (47 * y) x = hsb (a 29) (47 * y) x := by
  unfold sfA
  rw [hsb_put (by omega) hx, decide_eq_false (fun q => hy q.2.1), Bool.or_false]
  unfold hsb cpy47
  rw [if_neg (by omega)]
theorem sfA_o {u j : Nat} (hj : j ≠ 29) : sfA a s u j = a j := by
  unfold sfA putB
  rw [u2_o hj]
  funext i
  unfold cpy47
  rw [if_neg (fun q => hj q.1)]
end MR

