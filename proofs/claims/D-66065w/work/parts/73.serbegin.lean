set_option maxRecDepth 100000
/-! a serial run is begun on both sides -/
def OutT (K K' : KS) (f f' : MF) (a a' : MA) : Prop :=
  (∀ g kd t k, ¬ (kd = 2 ∨ kd = 6 ∨ ((kd = 4 ∨ kd = 5) ∧ t = 100)) → kkh K' g kd t k = kkh K g kd t k) ∧ (∀ kd t k i, ¬ ((20 ≤ kd ∧ kd < 30) ∨ ((kd = 40 ∨ kd = 41) ∧ t = 100)) → kka K' kd t k i = kka K kd t k i) ∧ (∀ t k, t ≠ 100 → kkf K' t k = kkf K t k) ∧ (∀ m, m ≠ 3 → kkp K' m = kkp K m) ∧
  (∀ g, ¬ ((1347 ≤ g ∧ g ≤ 1353) ∨ g = 1364 ∨ g = 1366 ∨ g = 1300) → f' g = f g) ∧
  ∀ j i, ((j < 19 ∨ j = 25 ∨ 41 ≤ j) ∨ (j = 19 ∧ i < 100) ∨ (j = 20 ∧ i < 4000) ∨ (j = 21 ∧ i < 4000) ∨ (j = 22 ∧ i < 104000) ∨ (j = 23 ∧ i < 6400) ∨ (j = 24 ∧ i < 100) ∨ (j = 26 ∧ 32 ≤ i) ∨ (j = 27 ∧ i = 1) ∨ (j = 28 ∧ i = 1)) → a' j i = a j i
theorem OutS.t {K K' : KS} {f f' : MF} {a a' : MA} (h : OutS K K' f f' a a') : OutT K K' f f' a a' := ⟨h.1, h.2.1, h.2.2.1, fun m _ => by rw [h.2.2.2.1], fun g q => h.2.2.2.2.1 g (by omega), h.2.2.2.2.2⟩
theorem OutT.trans {K K1 K2 : KS} {f f1 f2 : MF} {a a1 a2 : MA} (h1 : OutT K K1 f f1 a a1) (h2 : OutT K1 K2 f1 f2 a1 a2) : OutT K K2 f f2 a a2 :=
  ⟨fun g kd t k q => (h2.1 g kd t k q).trans (h1.1 g kd t k q), fun kd t k i q => (h2.2.1 kd t k i q).trans (h1.2.1 kd t k i q), fun t k q => (h2.2.2.1 t k q).trans (h1.2.2.1 t k q), fun m q => (h2.2.2.2.1 m q).trans (h1.2.2.2.1 m q), fun g q => (h2.2.2.2.2.1 g q).trans (h1.2.2.2.2.1 g q), fun j i q => (h2.2.2.2.2.2 j i q).trans (h1.2.2.2.2.2 j i q)⟩
section SB
variable {G : GA} {B : CS} {P : PD} {ht : Nat → Nat} {K : KS} {f : MF} {a : MA} {pa b0 : Nat} {al ia : Nat → Nat}
theorem kB9_h {c : Nat} : kkh (kB9 K c) = kkh K := rfl
theorem kB9_a {c kd t k i : Nat} : kka (kB9 K c) kd t k i = if (kd = 26 ∨ kd = 27) ∧ t = 0 ∧ k = 0 ∧ c ≤ i ∧ i < 32 then -1 else if kd = 28 ∧ t = 0 ∧ k = 0 ∧ c ≤ i ∧ i < 32 then 0 else kka K kd t k i := rfl
theorem kCp_a {mk kd t k i : Nat} : kka (kCp K mk) kd t k i = if kd = 10 * mk ∧ t = 0 ∧ k = 0 ∧ i < 32 then kka K 11 0 0 i else kka K kd t k i := rfl
theorem kP_a {m : Nat} {v : Option Nat} : kka (ksP K m v) = kka K := rfl
theorem kP_h {m : Nat} {v : Option Nat} : kkh (ksP K m v) = kkh K := rfl
theorem kCp_h {mk : Nat} : kkh (kCp K mk) = kkh K := rfl
theorem kB9_f {c : Nat} : kkf (kB9 K c) = kkf K := rfl
theorem kB9_p {c : Nat} : kkp (kB9 K c) = kkp K := rfl
theorem kCp_f {mk : Nat} : kkf (kCp K mk) = kkf K := rfl
theorem kCp_p {mk : Nat} : kkp (kCp K mk) = kkp K := rfl
theorem kP_f {m : Nat} {v : Option Nat} : kkf (ksP K m v) = kkf K := rfl
theorem kP_p {m : Nat} {v : Option Nat} : kkp (ksP K m v) = u1 (kkp K) m v := rfl
theorem kMb_h {g kd t k : Nat} (h : ¬ (kd = 2 ∧ 1002 ≤ g ∧ g ≤ 1005)) : kkh (kMb K 2 pa) g kd t k = kkh K g kd t k := by
  unfold kMb
  rw [kh_I, if_neg (by omega), kh_I, if_neg (by omega), kh_I, if_neg (by omega), kh_I, if_neg (by omega), kCp_h, kP_h]
/-- fields when a serial run begins -/
theorem kSb_o {g kd t k : Nat} (h1 : kd ≠ 2) (h2 : ¬ (kd = 4 ∧ t = 100)) (h3 : ¬ (kd = 5 ∧ t = 100 ∧ k = 0)) : kkh (kSb K pa b0) g kd t k = kkh K g kd t k := by
  unfold kSb
  rw [kB9_h, kh_A, kh_A, kh_I, if_neg (by omega), kh_A, kh_I, if_neg (by omega), kh_I, if_neg (by omega), kh_I, if_neg (by omega), kh_I, if_neg (by omega), kh_I, if_neg (by omega), kh_I, if_neg (by omega)]
  unfold kSb0
  rw [kh_I, if_neg (by omega), kh_B, if_neg (by omega), kh_I, if_neg (by omega), kh_I, if_neg (by omega), kMb_h (by omega)]
theorem kSb_x {g kd t k : Nat} (h1 : ¬ (kd = 2 ∧ (g = 415 ∨ g = 414 ∨ g = 410 ∨ g = 409 ∨ g = 408 ∨ g = 413 ∨ g = 418))) : kkh (kSb K pa b0) g kd t k = kkh (kSb0 K pa b0) g kd t k := by
  unfold kSb
  rw [kB9_h, kh_A, kh_A, kh_I, if_neg (by omega), kh_A, kh_I, if_neg (by omega), kh_I, if_neg (by omega), kh_I, if_neg (by omega), kh_I, if_neg (by omega), kh_I, if_neg (by omega), kh_I, if_neg (by omega)]
theorem kSb_2 {g : Nat} (h : g = 415 ∨ g = 414 ∨ g = 410 ∨ g = 409 ∨ g = 408) : kkh (kSb K pa b0) g 2 0 0 = nI 0 := by
  unfold kSb
  rw [kB9_h, kh_A, kh_A, kh_I, if_neg (by omega), kh_A, kh_I, if_neg (by omega), kh_I, kh_I, kh_I, kh_I, kh_I]
  by_cases c1 : g = 408
  · rw [if_pos ⟨c1, rfl, rfl, rfl⟩]; rfl
  · rw [if_neg (fun z => c1 z.1)]
    by_cases c2 : g = 409
    · rw [if_pos ⟨c2, rfl, rfl, rfl⟩]; rfl
    · rw [if_neg (fun z => c2 z.1)]
      by_cases c3 : g = 410
      · rw [if_pos ⟨c3, rfl, rfl, rfl⟩]; rfl
      · rw [if_neg (fun z => c3 z.1)]
        by_cases c4 : g = 414
        · rw [if_pos ⟨c4, rfl, rfl, rfl⟩]; rfl
        · rw [if_neg (fun z => c4 z.1), if_pos ⟨by omega, rfl, rfl, rfl⟩]; rfl
theorem kSb_413 : kkh (kSb K pa b0) 413 2 0 0 = nI 1 := by
  unfold kSb
  rw [kB9_h, kh_A, kh_A, kh_I, if_neg (by omega), kh_A, kh_I, if_pos ⟨rfl, rfl, rfl, rfl⟩]; rfl
theorem kSb_418 : kkh (kSb K pa b0) 418 2 0 0 = nI 1 := by
  unfold kSb
  rw [kB9_h, kh_A, kh_A, kh_I, if_pos ⟨rfl, rfl, rfl, rfl⟩]; rfl
theorem kSb_m {g : Nat} (h : 1002 ≤ g ∧ g ≤ 1005) : kkh (kSb K pa b0) g 2 0 0 = if g = 1005 then 1 else 0 := by
  rw [kSb_x (by omega)]
  unfold kSb0
  rw [kh_I, if_neg (by omega), kh_B, if_neg (by omega), kh_I, if_neg (by omega), kh_I, if_neg (by omega)]
  unfold kMb
  rw [kh_I]
  by_cases c5 : g = 1005
  · rw [if_pos ⟨c5, rfl, rfl, rfl⟩, if_pos c5]
  · rw [if_neg (fun z => c5 z.1), if_neg c5, kh_I]
    by_cases c4 : g = 1004
    · rw [if_pos ⟨c4, rfl, rfl, rfl⟩]
    · rw [if_neg (fun z => c4 z.1), kh_I]
      by_cases c3 : g = 1003
      · rw [if_pos ⟨c3, rfl, rfl, rfl⟩]
      · rw [if_neg (fun z => c3 z.1), kh_I, if_pos ⟨by omega, rfl, rfl, rfl⟩]
theorem kSb_502 : kkh (kSb K pa b0) 502 4 100 0 = nI 1 := by
  rw [kSb_x (by omega)]
  unfold kSb0
  rw [kh_I, if_pos ⟨rfl, rfl, rfl, rfl⟩]
theorem kSb_503 : kkh (kSb K pa b0) 503 4 100 0 = nI 0 := by
  rw [kSb_x (by omega)]
  unfold kSb0
  rw [kh_I, if_neg (by omega), kh_B, if_neg (by omega), kh_I, if_pos ⟨rfl, rfl, rfl, rfl⟩]; rfl
theorem kSb_t {g : Nat} : kkh (kSb K pa b0) g 5 100 0 = if g = 702 then nI b0 else if g = 701 then 0 else if g = 704 ∨ g = 705 then -1 else if g = 703 ∨ g = 706 ∨ g = 707 ∨ g = 708 ∨ g = 709 then 0 else kkh (ksI (ksI (kMb K 2 pa) 502 4 100 0 0) 503 4 100 0 0) g 5 100 0 := by
  rw [kSb_x (by omega)]
  unfold kSb0
  rw [kh_I, if_neg (by omega), kh_B, if_pos ⟨rfl, rfl, rfl⟩]
theorem kSb_a {kd t k i : Nat} (h1 : ¬ (20 ≤ kd ∧ kd < 30)) (h2 : ¬ (kd = 41 ∧ t = 100 ∧ k = 0)) : kka (kSb K pa b0) kd t k i = kka K kd t k i := by
  unfold kSb
  rw [kB9_a, if_neg (by omega), if_neg (by omega), ka_A, if_neg (by omega), ka_A, if_neg (by omega), ka_I, ka_A, if_neg (by omega), ka_I, ka_I, ka_I, ka_I, ka_I, ka_I]
  unfold kSb0
  rw [ka_I, ka_B, if_neg (by omega), ka_I, ka_I]
  unfold kMb
  rw [ka_I, ka_I, ka_I, ka_I]
  rw [kCp_a, if_neg (by omega), kP_a]
theorem kSb_20 {i : Nat} (hi : i < 32) : kka (kSb K pa b0) 20 0 0 i = kka K 11 0 0 i := by
  unfold kSb
  rw [kB9_a, if_neg (by omega), if_neg (by omega), ka_A, if_neg (by omega), ka_A, if_neg (by omega), ka_I, ka_A, if_neg (by omega), ka_I, ka_I, ka_I, ka_I, ka_I, ka_I]
  unfold kSb0
  rw [ka_I, ka_B, if_neg (by omega), ka_I, ka_I]
  unfold kMb
  rw [ka_I, ka_I, ka_I, ka_I]
  rw [kCp_a, if_pos ⟨rfl, rfl, rfl, hi⟩, kP_a]
theorem kSb_267 {kd i : Nat} (hk : kd = 26 ∨ kd = 27) (hi : i < 32) : kka (kSb K pa b0) kd 0 0 i = -1 := by
  unfold kSb
  rw [kB9_a, if_pos ⟨hk, rfl, rfl, by omega, hi⟩]
theorem kSb_28 {i : Nat} (hi : i < 32) : kka (kSb K pa b0) 28 0 0 i = 0 := by
  unfold kSb
  rw [kB9_a, if_neg (by omega), if_pos (by omega)]
theorem kSb_22 : kka (kSb K pa b0) 22 0 0 0 = -1 := by
  unfold kSb
  rw [kB9_a, if_neg (by omega), if_neg (by omega), ka_A, if_neg (by omega), ka_A, if_neg (by omega), ka_I, ka_A, if_pos ⟨rfl, rfl, rfl, rfl⟩]
theorem kSb_24 : kka (kSb K pa b0) 24 0 0 0 = 0 := by
  unfold kSb
  rw [kB9_a, if_neg (by omega), if_neg (by omega), ka_A, if_neg (by omega), ka_A, if_pos ⟨rfl, rfl, rfl, rfl⟩]
theorem kSb_25 : kka (kSb K pa b0) 25 0 0 0 = 0 := by
  unfold kSb
  rw [kB9_a, if_neg (by omega), if_neg (by omega), ka_A, if_pos ⟨rfl, rfl, rfl, rfl⟩]
theorem kSb_41 {i : Nat} (hi : i < 26) : kka (kSb K pa b0) 41 100 0 i = 0 := by
  unfold kSb
  rw [kB9_a, if_neg (by omega), if_neg (by omega), ka_A, if_neg (by omega), ka_A, if_neg (by omega), ka_I, ka_A, if_neg (by omega), ka_I, ka_I, ka_I, ka_I, ka_I, ka_I]
  unfold kSb0
  rw [ka_I, ka_B, if_pos ⟨rfl, rfl, rfl, hi⟩]
theorem kSb_f {t k : Nat} : kkf (kSb K pa b0) t k = if t = 100 ∧ k = 0 then none else kkf K t k := by
  unfold kSb kSb0 kMb
  rw [kB9_f, kf_A, kf_A, kf_I, kf_A, kf_I, kf_I, kf_I, kf_I, kf_I, kf_I, kf_I, kf_B, kf_I, kf_I, kf_I, kf_I, kf_I, kf_I, kCp_f, kP_f]
theorem kSb_p {m : Nat} : kkp (kSb K pa b0) m = if m = 3 then some pa else kkp K m := by
  unfold kSb kSb0 kMb
  rw [kB9_p, kp_A, kp_A, kp_I, kp_A, kp_I, kp_I, kp_I, kp_I, kp_I, kp_I, kp_I, kp_B, kp_I, kp_I, kp_I, kp_I, kp_I, kp_I, kCp_p, kP_p]; rfl
end SB
