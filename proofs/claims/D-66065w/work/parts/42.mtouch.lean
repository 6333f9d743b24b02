set_option maxRecDepth 100000
/-! the reference: a procedure is entered -/
def avl (q : Nat → Nat) (s : Nat → Int32) : Nat → Nat → Int32 → Int32
  | 0, _, x => x
  | m + 1, v, x => if q m = v then s m else avl q s m v x
def wrA (a : MA) (F : Nat) (q : Nat → Nat) (s : Nat → Int32) (k : Nat) : MA := fun j i => if j = 22 ∧ 26 * F ≤ i ∧ i < 26 * F + 26 then avl q s k (i - 26 * F) (a 22 i) else a j i
def zrA (a : MA) (F k0 : Nat) : MA := fun j i => if j = 22 ∧ 26 * F + k0 ≤ i ∧ i < 26 * F + 26 then 0 else a j i
/-- behind an enter: thread t had d frames, what is from comes from thread u, whose pile goes down to b -/
def entA (a : MA) (t d u b b0 m : Nat) (q : Nat → Nat) : MA := fun j i =>
  if j = 19 ∧ i = t then nI (d + 1) else if j = 20 ∧ i = 40 * t + d then nI b0 else if j = 21 ∧ i = 40 * t + d then 0 else if j = 24 ∧ i = u then nI b
  else if j = 22 ∧ 26 * (40 * t + d) ≤ i ∧ i < 26 * (40 * t + d) + 26 then avl q (fun k => a 23 (64 * u + b + k)) m (i - 26 * (40 * t + d)) 0 else a j i
section ME
variable {f : MF} {a : MA} {t d u b b0 m p F : Nat} {q : Nat → Nat} {s : Nat → Int32}
theorem mm_ent92 (hF : F < 4040) (hu : u ≤ 100) (hp : p < 8) (hm : m ≤ 3) (h16 : a 16 p = nI m) (h24 : a 24 u = nI b) (hb : b + m ≤ 64) (h17 : ∀ j, j < m → a 17 (3 * p + j) = nI (q j) ∧ q j < 26) (hs : ∀ k, k < m → s k = a 23 (64 * u + b + k)) :
    ∀ (r k N : Nat), k + r = m → r < N → m_enter_92 N (nI p) (nI u) (nI F) (nI k) f (wrA a F q s k) = some (0, f, wrA a F q s m) := by
  have cp : (nI p).toNatClampNeg = p := cln_ (by omega)
  have cu : (nI u).toNatClampNeg = u := cln_ (by omega)
  have w16 : ∀ k, wrA a F q s k 16 p = nI m := fun k => (if_neg (by omega)).trans h16
  have w24 : ∀ k, wrA a F q s k 24 u = nI b := fun k => (if_neg (by omega)).trans h24
  intro r
  induction r with
  | zero =>
    intro k N hk hn
    obtain ⟨N, rfl⟩ : ∃ n', N = n' + 1 := ⟨N - 1, by omega⟩
    rw [m_enter_92, cp, ml16, ibn hp (by decide), chk_t, w16, if_pos (nI_le (by omega) (by omega)), show k = m by omega]
  | succ r ih =>
    intro k N hk hn
    obtain ⟨N, rfl⟩ : ∃ n', N = n' + 1 := ⟨N - 1, by omega⟩
    obtain ⟨h1, h2⟩ := h17 k (by omega)
    have c1 : (nI (3 * p + k)).toNatClampNeg = 3 * p + k := cln_ (by omega)
    have c2 : (nI (64 * u + b + k)).toNatClampNeg = 64 * u + b + k := cln_ (by omega)
    have c3 : (nI (26 * F + q k)).toNatClampNeg = 26 * F + q k := cln_ (by omega)
    have w17 : wrA a F q s k 17 (3 * p + k) = nI (q k) := (if_neg (by omega)).trans h1
    have w23 : wrA a F q s k 23 (64 * u + b + k) = s k := (if_neg (by omega)).trans (hs k (by omega)).symm
    rw [m_enter_92, cp, ml16, ibn hp (by decide), chk_t, w16, if_neg (nI_ge (by omega) (by omega)), ix3, ml17, ibn (show 3 * p + k < 24 by omega) (by decide), chk_t, cu, ml24, ibn (show u < 101 by omega) (by decide), chk_t, w24, ix64, nI_add, ml23, ibn (show 64 * u + b + k < 6464 by omega) (by decide), chk_t, c1, w17, ix26, ml22, ibn (show 26 * F + q k < 105040 by omega) (by decide), chk_t, c2, c3, w23, nI_1]
    have e : u2 (wrA a F q s k) 22 (26 * F + q k) (s k) = wrA a F q s (k + 1) := by
      funext j i
      by_cases c : j = 22 ∧ i = 26 * F + q k
      · rw [c.1, c.2, u2_s]
        unfold wrA
        rw [if_pos (by omega), avl, if_pos (by omega)]
      · rw [u2_n c]
        unfold wrA
        by_cases c4 : j = 22 ∧ 26 * F ≤ i ∧ i < 26 * F + 26
        · rw [if_pos c4, if_pos c4, avl, if_neg (by omega)]
        · rw [if_neg c4, if_neg c4]
    rw [e, ih (k + 1) N (by omega) (by omega)]
theorem mm_ent47 (hF : F < 4040) : ∀ (r k N : Nat) (a : MA), k + r = 26 → r < N → m_enter_47 N (nI p) (nI u) (nI F) (nI k) f a =
    chk (ib (nI u) (mlen 24)) (chk (ib (nI p) (mlen 16)) (chk (ib (nI u) (mlen 24)) (m_enter_92 1000000 (nI p) (nI u) (nI F) (nI 0) f (u2 (zrA a F k) 24 (nI u).toNatClampNeg ((zrA a F k 24 (nI u).toNatClampNeg) - (zrA a F k 16 (nI p).toNatClampNeg)))))) := by
  intro r
  induction r with
  | zero =>
    intro k N a hk hn
    obtain ⟨N, rfl⟩ : ∃ n', N = n' + 1 := ⟨N - 1, by omega⟩
    have e : zrA a F k = a := by
      funext j i
      unfold zrA
      rw [if_neg (by omega)]
    rw [m_enter_47, if_pos (by rw [show k = 26 by omega]; decide), e]
    rfl
  | succ r ih =>
    intro k N a hk hn
    obtain ⟨N, rfl⟩ : ∃ n', N = n' + 1 := ⟨N - 1, by omega⟩
    have c3 : (nI (26 * F + k)).toNatClampNeg = 26 * F + k := cln_ (by omega)
    have e : zrA (u2 a 22 (26 * F + k) 0) F (k + 1) = zrA a F k := by
      funext j i
      unfold zrA
      by_cases c : j = 22 ∧ 26 * F + k ≤ i ∧ i < 26 * F + 26
      · rw [if_pos c]
        by_cases c2 : i = 26 * F + k
        · rw [if_neg (by omega), c.1, c2, u2_s]
        · rw [if_pos (by omega)]
      · rw [if_neg c, if_neg (by omega), u2_n (by omega)]
    rw [m_enter_47, if_neg (show ¬ (26 : Int32) ≤ nI k from nI_ge (b := 26) (by omega) (by decide)), ix26, ml22, ibn (show 26 * F + k < 105040 by omega) (by decide), chk_t, c3, nI_1, ih (k + 1) N _ (by omega) (by omega), e]
theorem mm_enter (ht : t ≤ 100) (hd : d < 40) (hu : u ≤ 100) (hp : p < 8) (hm : m ≤ 3) (h19 : a 19 t = nI d) (h15 : a 15 p = nI b0) (h16 : a 16 p = nI m) (h24 : a 24 u = nI (b + m)) (hb : b + m ≤ 64) (h17 : ∀ j, j < m → a 17 (3 * p + j) = nI (q j) ∧ q j < 26) :
    m_enter (nI t) (nI p) (nI u) f a = some (0, f, entA a t d u b b0 m q) := by
  have ct : (nI t).toNatClampNeg = t := cln_ (by omega)
  have cp : (nI p).toNatClampNeg = p := cln_ (by omega)
  have cu : (nI u).toNatClampNeg = u := cln_ (by omega)
  have cF : (nI (40 * t + d)).toNatClampNeg = 40 * t + d := cln_ (by omega)
  unfold m_enter
  rw [ct, h19, ml19, ibn (show t < 101 by omega) (by decide), chk_t, chk_t, chk_t, ml15, ibn hp (by decide), chk_t, ix40, ml20, ml21, ibn (show 40 * t + d < 4040 by omega) (by decide), chk_t, chk_t, cF, cp, nI_1, u2_n (show ¬ (15 = 19 ∧ p = t) by omega), h15]
  generalize hA : u2 (u2 (u2 a 19 t (nI (d + 1))) 20 (40 * t + d) (nI b0)) 21 (40 * t + d) 0 = A
  show m_enter_47 1000000 (nI p) (nI u) (nI (40 * t + d)) (nI 0) f A = _
  have A1 : ∀ j i, j ≠ 19 → j ≠ 20 → j ≠ 21 → A j i = a j i := by
    intro j i h1 h2 h3
    rw [← hA, u2_n (fun z => h3 z.1), u2_n (fun z => h2 z.1), u2_n (fun z => h1 z.1)]
  have z24 : zrA A (40 * t + d) 0 24 u = nI (b + m) := (if_neg (by omega)).trans ((A1 24 u (by decide) (by decide) (by decide)).trans h24)
  have z16 : zrA A (40 * t + d) 0 16 p = nI m := (if_neg (by omega)).trans ((A1 16 p (by decide) (by decide) (by decide)).trans h16)
  rw [mm_ent47 (by omega) 26 0 1000000 A (by omega) (by omega), cu, cp, ml24, ml16, ibn (show u < 101 by omega) (by decide), chk_t, ibn hp (by decide), chk_t, chk_t, z24, z16, pk_sub (by omega), show b + m - m = b by omega]
  generalize hC : u2 (zrA A (40 * t + d) 0) 24 u (nI b) = C
  have C1 : ∀ j i, j ≠ 24 → j ≠ 22 → C j i = A j i := by
    intro j i h1 h2
    rw [← hC, u2_n (fun z => h1 z.1)]
    exact if_neg (fun z => h2 z.1)
  have w0 : C = wrA C (40 * t + d) q (fun k => a 23 (64 * u + b + k)) 0 := by
    funext j i
    unfold wrA
    by_cases c : j = 22 ∧ 26 * (40 * t + d) ≤ i ∧ i < 26 * (40 * t + d) + 26
    · rw [if_pos c, avl, c.1]
    · rw [if_neg c]
  rw [w0, mm_ent92 (a := C) (b := b) (m := m) (by omega) hu hp hm (by rw [C1 _ _ (by decide) (by decide), A1 _ _ (by decide) (by decide) (by decide)]; exact h16) (by rw [← hC, u2_s]) hb (fun j hj => by rw [C1 _ _ (by decide) (by decide), A1 _ _ (by decide) (by decide) (by decide)]; exact h17 j hj) (fun k hk => by rw [C1 _ _ (by decide) (by decide), A1 _ _ (by decide) (by decide) (by decide)]) m 0 1000000 (by omega) (by omega)]
  congr 3
  funext j i
  unfold wrA entA
  by_cases c : j = 22 ∧ 26 * (40 * t + d) ≤ i ∧ i < 26 * (40 * t + d) + 26
  · rw [if_pos c, if_neg (by omega), if_neg (by omega), if_neg (by omega), if_neg (by omega), if_pos c]
    congr 1
    rw [← hC, u2_n (by omega)]
    exact if_pos (by omega)
  · rw [if_neg c]
    by_cases c1 : j = 24 ∧ i = u
    · rw [if_neg (by omega), if_neg (by omega), if_neg (by omega), if_pos c1, ← hC, c1.1, c1.2, u2_s]
    · have e1 : C j i = A j i := by
        rw [← hC, u2_n c1]
        exact if_neg (by omega)
      rw [e1, ← hA]
      by_cases c2 : j = 21 ∧ i = 40 * t + d
      · rw [if_neg (by omega), if_neg (by omega), if_pos c2, c2.1, c2.2, u2_s]
      · rw [u2_n c2]
        by_cases c3 : j = 20 ∧ i = 40 * t + d
        · rw [if_neg (by omega), if_pos c3, c3.1, c3.2, u2_s]
        · rw [u2_n c3]
          by_cases c4 : j = 19 ∧ i = t
          · rw [if_pos c4, c4.1, c4.2, u2_s]
          · rw [u2_n c4, if_neg c4, if_neg c3, if_neg c2, if_neg c1, if_neg c]
end ME
/-! a cell is touched -/
def zI (b : Bool) : Int32 := if b then 1 else 0
/-- a word of those that touched a cell, but such as have a way here -/
def wdF (A : MA) (s c : Nat) (wr : Bool) (k : Nat) : Bool := decide (¬ ((A 37 (47 * c + k) ||| (if wr then A 36 (47 * c + k) else 0)) &&& (A 29 (47 * s + k) ^^^ (-1))) = 0)
section MT
variable {f : MF} {a A : MA} {s c r : Nat} {wr : Bool} {pl : Int32}
theorem zI_0 (b : Bool) : zI b = 0 ↔ b = false := by cases b <;> decide
theorem wdF_bits : (∃ k, k < 47 ∧ wdF A s c wr k = true) ↔ ∃ x, x < 1504 ∧ (hsb (A 37) (47 * c) x = true ∨ (wr = true ∧ hsb (A 36) (47 * c) x = true)) ∧ ¬ hsb (A 29) (47 * s) x = true := by
  have key : ∀ k, wdF A s c wr k = true ↔ ∃ i, i < 32 ∧ (bt (A 37 (47 * c + k)) i = true ∨ (wr = true ∧ bt (A 36 (47 * c + k)) i = true)) ∧ ¬ bt (A 29 (47 * s + k)) i = true := by
    intro k
    unfold wdF
    rw [decide_eq_true_iff, b_zero]
    constructor
    · intro h
      apply Classical.byContradiction
      intro h2
      apply h
      intro i hi
      rw [b_and, b_or, b_not _ hi]
      cases h3 : bt (A 29 (47 * s + k)) i with
      | true => simp
      | false =>
        have h4 : ¬ (bt (A 37 (47 * c + k)) i = true ∨ (wr = true ∧ bt (A 36 (47 * c + k)) i = true)) := fun h5 => h2 ⟨i, hi, h5, by rw [h3]; decide⟩
        simp only [not_or, not_and, Bool.not_eq_true] at h4
        rw [h4.1]
        cases hw : wr with
        | true => rw [if_pos rfl, h4.2 hw]; rfl
        | false => simp [b_0]
    · rintro ⟨i, hi, h1, h2⟩ h3
      have h4 := h3 i hi
      have h2' : bt (A 29 (47 * s + k)) i = false := by simpa using h2
      rw [b_and, b_or, b_not _ hi, h2'] at h4
      rcases h1 with h1 | ⟨h1, h5⟩
      · rw [h1] at h4; simp at h4
      · rw [h1, if_pos rfl, h5] at h4; simp at h4
  constructor
  · rintro ⟨k, hk, h⟩
    obtain ⟨i, hi, h1, h2⟩ := (key k).mp h
    refine ⟨32 * k + i, by omega, ?_⟩
    unfold hsb
    rw [show (32 * k + i) / 32 = k by omega, show (32 * k + i) % 32 = i by omega]
    exact ⟨h1, h2⟩
  · rintro ⟨x, hx, h1, h2⟩
    exact ⟨x / 32, by omega, (key _).mpr ⟨x % 32, by omega, h1, h2⟩⟩
theorem mm_t24 (hf : f 1351 = nI s) (hs : s < 1500) (hc : c < 32) (hr : A 38 c = 0) : ∀ (m k n : Nat) (fl : Bool), k + m = 47 → m < n →
    ((fl = true ∨ ∃ k', k ≤ k' ∧ k' < 47 ∧ wdF A s c wr k' = true) → m_touch_24 n (nI c) (zI wr) pl (zI fl) (nI k) f A = m_touch_116 (nI c) (zI wr) pl 1 f A) ∧
    ((fl = false ∧ ∀ k', k ≤ k' → k' < 47 → ¬ wdF A s c wr k' = true) → m_touch_24 n (nI c) (zI wr) pl (zI fl) (nI k) f A = m_touch_116 (nI c) (zI wr) pl 0 f A) := by
  have cc : (nI c).toNatClampNeg = c := cln_ (by omega)
  intro m
  induction m with
  | zero =>
    intro k n fl hk hn
    obtain ⟨n, rfl⟩ : ∃ n', n = n' + 1 := ⟨n - 1, by omega⟩
    rw [m_touch_24, if_pos (le47 (by omega))]
    constructor
    · rintro (h | ⟨k', h1, h2, -⟩)
      · rw [h]; rfl
      · omega
    · rintro ⟨h, -⟩
      rw [h]; rfl
  | succ m ih =>
    intro k n fl hk hn
    obtain ⟨n, rfl⟩ : ∃ n', n = n' + 1 := ⟨n - 1, by omega⟩
    have c1 : (nI (47 * c + k)).toNatClampNeg = 47 * c + k := cln_ (by omega)
    have c2 : (nI (47 * s + k)).toNatClampNeg = 47 * s + k := cln_ (by omega)
    -- one word
    have step : m_touch_24 (n + 1) (nI c) (zI wr) pl (zI fl) (nI k) f A = m_touch_24 n (nI c) (zI wr) pl (zI (fl || wdF A s c wr k)) (nI (k + 1)) f A := by
      rw [m_touch_24, if_neg (ge47 (by omega)), cc, ml38, ibn hc (by decide), chk_t, if_pos hr, ix47, ml37, ml36, ibn (show 47 * c + k < 1504 by omega) (by decide), chk_t, chk_t, hf, ix47, ml29, ibn (show 47 * s + k < 70500 by omega) (by decide), chk_t, chk_t, c1, c2, nI_1]
      cases fl with
      | true =>
        rw [if_neg (show ¬ zI true = 0 by decide), Bool.true_or]
        cases wr with
        | true => rw [if_neg (show ¬ zI true = 0 by decide), if_neg (show ¬ zI true = 0 by decide)]; rfl
        | false => rw [if_pos (show zI false = 0 from rfl)]; rfl
      | false =>
        rw [if_pos (show zI false = 0 from rfl), if_pos (show zI false = 0 from rfl), Bool.false_or]
        have hw : wdF A s c wr k = true ↔ ¬ ((A 37 (47 * c + k) ||| (if wr then A 36 (47 * c + k) else 0)) &&& (A 29 (47 * s + k) ^^^ (-1))) = 0 := decide_eq_true_iff
        cases wr with
        | true =>
          rw [if_neg (show ¬ zI true = 0 by decide)]
          replace hw : wdF A s c true k = true ↔ ¬ ((A 37 (47 * c + k) ||| A 36 (47 * c + k)) &&& (A 29 (47 * s + k) ^^^ (-1))) = 0 := hw
          by_cases q : wdF A s c true k = true
          · rw [q, if_neg (hw.mp q)]; rfl
          · rw [Bool.not_eq_true] at q
            rw [q, if_pos (Classical.byContradiction fun z => by rw [hw.mpr z] at q; cases q)]; rfl
        | false =>
          rw [if_pos (show zI false = 0 from rfl)]
          replace hw : wdF A s c false k = true ↔ ¬ ((A 37 (47 * c + k) ||| 0) &&& (A 29 (47 * s + k) ^^^ (-1))) = 0 := hw
          by_cases q : wdF A s c false k = true
          · rw [q, if_neg (hw.mp q)]; rfl
          · rw [Bool.not_eq_true] at q
            rw [q, if_pos (Classical.byContradiction fun z => by rw [hw.mpr z] at q; cases q)]; rfl
    obtain ⟨i1, i2⟩ := ih (k + 1) n (fl || wdF A s c wr k) (by omega) (by omega)
    rw [step]
    constructor
    · intro h
      apply i1
      rcases h with h | ⟨k', h1, h2, h3⟩
      · left; rw [h]; rfl
      · by_cases c3 : k' = k
        · left; rw [c3] at h3; simp [h3]
        · right; exact ⟨k', by omega, h2, h3⟩
    · rintro ⟨h1, h2⟩
      apply i2
      refine ⟨?_, fun k' h3 h4 => h2 k' (by omega) h4⟩
      have := h2 k (Nat.le_refl _) (by omega)
      simp [h1, this]
/-- the strand's own bit is put in and taken out again -/
theorem xor_back (hb : hsb (a 29) (47 * s) s = false) : u2 (putB a 29 (47 * s) s) 29 (47 * s + s / 32) (putB a 29 (47 * s) s 29 (47 * s + s / 32) ^^^ ((1 : Int32) <<< (nI (s % 32) &&& 31))) = a := by
  funext j i
  by_cases c : j = 29 ∧ i = 47 * s + s / 32
  · obtain ⟨rfl, rfl⟩ := c
    rw [u2_s]
    unfold putB
    rw [u2_s]
    refine b_ext fun i hi => ?_
    rw [b_xor, b_or, b_one (by omega) hi]
    by_cases q : i = s % 32
    · rw [decide_eq_true q, q]
      unfold hsb at hb
      rw [hb]; rfl
    · rw [decide_eq_false q]; simp
  · rw [u2_n c]
    unfold putB
    rw [u2_n c]
/-- what was found -/
def fnd (a : MA) (s c : Nat) (wr : Bool) : Prop := ∃ x, x < 1504 ∧ (hsb (a 37) (47 * c) x = true ∨ (wr = true ∧ hsb (a 36) (47 * c) x = true)) ∧ ¬ (hsb (a 29) (47 * s) x = true ∨ x = s)
theorem fnd_put (hs : s < 1500) : (∃ k, k < 47 ∧ wdF (putB a 29 (47 * s) s) s c wr k = true) ↔ fnd a s c wr := by
  rw [wdF_bits]
  unfold fnd
  have e1 : putB a 29 (47 * s) s 37 = a 37 := by unfold putB; exact u2_o (by decide)
  have e2 : putB a 29 (47 * s) s 36 = a 36 := by unfold putB; exact u2_o (by decide)
  constructor
  · rintro ⟨x, hx, h1, h2⟩
    rw [hsb_put (by omega) hx] at h2
    rw [e1, e2] at h1
    exact ⟨x, hx, h1, by simpa using h2⟩
  · rintro ⟨x, hx, h1, h2⟩
    refine ⟨x, hx, by rw [e1, e2]; exact h1, ?_⟩
    rw [hsb_put (by omega) hx]
    simpa using h2
def tgtA (wr : Bool) : Nat := if wr then 37 else 36
theorem mm_t116_0 (hf : f 1351 = nI s) (hs : s < 1500) (hc : c < 32) (hb : hsb (a 29) (47 * s) s = false) : m_touch_116 (nI c) (zI wr) pl 0 f (putB a 29 (47 * s) s) = some (0, f, putB a (tgtA wr) (47 * c) s) := by
  have e1 : nI s / (32 : Int32) = nI (s / 32) := pk_div (by omega) (by decide) (by decide)
  have e2 : nI s - nI (s / 32) * (32 : Int32) = nI (s % 32) := by rw [← e1]; exact pk_rem (by omega) (by decide) (by decide)
  have c2 : (nI (47 * s + s / 32)).toNatClampNeg = 47 * s + s / 32 := cln_ (by omega)
  unfold m_touch_116
  rw [hf, e1, e2, ix47, c2, ml29, ibn (show 47 * s + s / 32 < 70500 by omega) (by decide), chk_t, chk_t, if_pos rfl, xor_back hb, iy47, mm_put ml36 (by omega) (by omega) (by omega), mm_put ml37 (by omega) (by omega) (by omega)]
  cases wr <;> rfl
def racA (a : MA) (c s r : Nat) (wr : Bool) (pl : Int32) : MA := u2 (u2 (u2 (u2 (u2 a 38 c 1) 39 (4 * r) (nI c)) 39 (4 * r + 1) pl) 39 (4 * r + 2) (zI wr)) 39 (4 * r + 3) (nI s)
theorem mm_t116_1 (hf : f 1351 = nI s) (hs : s < 1500) (hc : c < 32) (hb : hsb (a 29) (47 * s) s = false) (hr : f 1364 = nI r) (hr2 : r < 32) : m_touch_116 (nI c) (zI wr) pl 1 f (putB a 29 (47 * s) s) = some (0, u1 f 1364 (nI (r + 1)), putB (racA a c s r wr pl) (tgtA wr) (47 * c) s) := by
  have e1 : nI s / (32 : Int32) = nI (s / 32) := pk_div (by omega) (by decide) (by decide)
  have e2 : nI s - nI (s / 32) * (32 : Int32) = nI (s % 32) := by rw [← e1]; exact pk_rem (by omega) (by decide) (by decide)
  have c2 : (nI (47 * s + s / 32)).toNatClampNeg = 47 * s + s / 32 := cln_ (by omega)
  have cc : (nI c).toNatClampNeg = c := cln_ (by omega)
  have r0 : (nI (4 * r)).toNatClampNeg = 4 * r := cln_ (by omega)
  have r1 : nI (4 * r) + 1 = nI (4 * r + 1) := nI_1 _
  have r2 : nI (4 * r) + 2 = nI (4 * r + 2) := nI_add (4 * r) 2
  have r3 : nI (4 * r) + 3 = nI (4 * r + 3) := nI_add (4 * r) 3
  have r1' : (nI (4 * r + 1)).toNatClampNeg = 4 * r + 1 := cln_ (by omega)
  have r2' : (nI (4 * r + 2)).toNatClampNeg = 4 * r + 2 := cln_ (by omega)
  have r3' : (nI (4 * r + 3)).toNatClampNeg = 4 * r + 3 := cln_ (by omega)
  have f1 : u1 f 1364 (nI (r + 1)) 1351 = nI s := by rw [u1_n (by decide)]; exact hf
  unfold m_touch_116
  rw [hf, e1, e2, ix47, c2, ml29, ibn (show 47 * s + s / 32 < 70500 by omega) (by decide), chk_t, chk_t, if_neg (by decide), xor_back hb, cc, ml38, ibn hc (by decide), chk_t, hr, iy4, ml39, ibn (show 4 * r < 128 by omega) (by decide), chk_t, r1, ibn (show 4 * r + 1 < 128 by omega) (by decide), chk_t, r0, r1', vnz1, r2]
  unfold m_touch_207
  rw [hr, iy4, r2', r3, r3', ml39, ibn (show 4 * r + 2 < 128 by omega) (by decide), chk_t, ibn (show 4 * r + 3 < 128 by omega) (by decide), chk_t, nI_1, f1, hf, iy47, mm_put ml36 (by omega) (by omega) (by omega), mm_put ml37 (by omega) (by omega) (by omega)]
  simp only [chk_t, mm_put (f := u1 f 1364 (nI (r + 1))) ml37 (show 47 * c + s / 32 < 1504 by omega) (by omega) (show s < 1504 by omega), bnd_s]
  cases wr <;> rfl
theorem mm_touch0 (hf : f 1351 = nI s) (hs : s < 1500) (hc : c < 32) (hb : hsb (a 29) (47 * s) s = false) (hn : ¬ a 38 c = 0 ∨ ¬ fnd a s c wr) : m_touch (nI c) (zI wr) pl f a = some (0, f, putB a (tgtA wr) (47 * c) s) := by
  have cc : (nI c).toNatClampNeg = c := cln_ (by omega)
  unfold m_touch
  rw [hf, iy47, mm_put ml29 (by omega) (by omega) (by omega), bnd_s]
  by_cases q : a 38 c = 0
  · have hn' : ¬ fnd a s c wr := by
      rcases hn with z | z
      · exact absurd q z
      · exact z
    have h38 : putB a 29 (47 * s) s 38 c = 0 := by unfold putB; rw [u2_n (by omega)]; exact q
    rw [← fnd_put hs] at hn'
    have := (mm_t24 (pl := pl) (wr := wr) hf hs hc h38 47 0 1000000 false (by omega) (by omega)).2 ⟨rfl, fun k' _ h2 h3 => hn' ⟨k', h2, h3⟩⟩
    show m_touch_24 1000000 (nI c) (zI wr) pl (zI false) (nI 0) f _ = _
    rw [this, mm_t116_0 hf hs hc hb]
  · have h38 : ¬ putB a 29 (47 * s) s 38 c = 0 := by unfold putB; rw [u2_n (by omega)]; exact q
    rw [m_touch_24, if_neg (by decide), cc, ml38, ibn hc (by decide), chk_t, if_neg h38, mm_t116_0 hf hs hc hb]
theorem mm_touch1 (hf : f 1351 = nI s) (hs : s < 1500) (hc : c < 32) (hb : hsb (a 29) (47 * s) s = false) (q : a 38 c = 0) (hn : fnd a s c wr) (hr : f 1364 = nI r) (hr2 : r < 32) : m_touch (nI c) (zI wr) pl f a = some (0, u1 f 1364 (nI (r + 1)), putB (racA a c s r wr pl) (tgtA wr) (47 * c) s) := by
  unfold m_touch
  rw [hf, iy47, mm_put ml29 (by omega) (by omega) (by omega), bnd_s]
  have h38 : putB a 29 (47 * s) s 38 c = 0 := by unfold putB; rw [u2_n (by omega)]; exact q
  rw [← fnd_put hs] at hn
  obtain ⟨k', h2, h3⟩ := hn
  have := (mm_t24 (pl := pl) (wr := wr) hf hs hc h38 47 0 1000000 false (by omega) (by omega)).1 (Or.inr ⟨k', Nat.zero_le _, h2, h3⟩)
  show m_touch_24 1000000 (nI c) (zI wr) pl (zI false) (nI 0) f _ = _
  rw [this, mm_t116_1 hf hs hc hb hr hr2]
end MT
