set_option maxRecDepth 100000
/-! the serial run's strands are ranked; which lie beside each other -/
def kRk (K : KS) (n i : Nat) (pos : Nat → Nat) : KS := mkK (kkh K) (fun kd t k x => if kd = 23 ∧ t = 0 ∧ k = 0 ∧ x < n ∧ i ≤ pos x then nI (pos x) else kka K kd t k x) (kkf K) (kkp K)
section RK
variable {G : GA} {B : CS} {P : PD} {ht : Nat → Nat} {K K' : KS} {f : MF} {a : MA} {n d wk : Nat} {pos at_ : Nat → Nat} {lim : Bool}
theorem kRk_a {i kd t k x : Nat} : kka (kRk K n i pos) kd t k x = if kd = 23 ∧ t = 0 ∧ k = 0 ∧ x < n ∧ i ≤ pos x then nI (pos x) else kka K kd t k x := rfl
theorem kRk_h {i : Nat} : kkh (kRk K n i pos) = kkh K := rfl
theorem f_rank24 (hS : St G B) (hO : OrdI n pos at_) (hn : n ≤ 1500) : ∀ (m i N : Nat) (K : KS), i + m = n → m < N → BhI n at_ (kka K 22 0 0) → fX4_rankAll_at24 N (gad G 2 0 0) (nI i) (if i = n then -1 else nI (at_ i)) (hp G K B) = some (0, hp G (kRk K n i pos) B, 0, 0) := by
  intro m
  induction m with
  | zero =>
    intro i N K h1 h2 hb
    obtain ⟨M, rfl⟩ : ∃ M, N = M + 1 := ⟨N - 1, by omega⟩
    have e : kRk K n i pos = K := by
      refine KS_ext rfl ?_ rfl rfl
      funext kd t k x
      rw [kRk_a]
      by_cases c : x < n
      · have := (hO.1 x c).1
        rw [if_neg (by omega)]
      · rw [if_neg (by omega)]
    rw [fX4_rankAll_at24, if_pos (show i = n by omega), if_pos rfl, e]; rfl
  | succ m ih =>
    intro i N K h1 h2 hb
    obtain ⟨M, rfl⟩ : ∃ M, N = M + 1 := ⟨N - 1, by omega⟩
    obtain ⟨o1, o2⟩ := hO.2.1 i (by omega)
    have hx : at_ i < 1500 := by omega
    have nx : kka (ksA K 23 0 0 (at_ i) (nI i)) 22 0 0 (at_ i) = if i + 1 = n then -1 else nI (at_ (i + 1)) := by
      rw [ka_A, if_neg (by omega)]
      exact hb i (by omega)
    have e : kRk (ksA K 23 0 0 (at_ i) (nI i)) n (i + 1) pos = kRk K n i pos := by
      refine KS_ext rfl ?_ rfl rfl
      funext kd t k x
      rw [kRk_a, kRk_a, ka_A]
      by_cases c : x = at_ i
      · subst c
        by_cases z : kd = 23 ∧ t = 0 ∧ k = 0
        · rw [if_neg (by omega), if_pos ⟨z.1, z.2.1, z.2.2, rfl⟩, if_pos ⟨z.1, z.2.1, z.2.2, o1, by omega⟩, o2]
        · rw [if_neg (by omega), if_neg (by omega), if_neg (by omega)]
      · by_cases z : kd = 23 ∧ t = 0 ∧ k = 0 ∧ x < n ∧ i ≤ pos x
        · have : pos x ≠ i := fun y => c (by rw [← y, (hO.1 x z.2.2.2.1).2])
          rw [if_pos (by omega), if_pos z]
        · rw [if_neg (show ¬ (kd = 23 ∧ t = 0 ∧ k = 0 ∧ x < n ∧ i + 1 ≤ pos x) by omega), if_neg (fun y => c y.2.2.2), if_neg z]
    have ih' := ih (i + 1) M (ksA K 23 0 0 (at_ i) (nI i)) (by omega) (by omega) (fun j hj => by rw [ka_A, if_neg (by omega)]; exact hb j hj)
    rw [fX4_rankAll_at24, if_neg (show ¬ i = n by omega), if_neg (nI_m1 (by omega))]
    simp only [tg_2 hS, chk_t, rf_412_2 hS, drf_s, tg_23 hS, ln_23 hS, ibn hx (show 1500 < 2 ^ 31 by decide), cln_ (show at_ i < 2 ^ 31 by omega), wA_23 hS hx, rf_411_2 hS, tg_22 hS, ln_22 hS, ai_22 hS hx, nx, nI_1, ih', e]
theorem f_rankAll (hS : St G B) (hO : OrdI n pos at_) (h0 : 0 < n) (hn : n ≤ 1500) (hb : BhI n at_ (kka K 22 0 0)) (h413 : kkh K 413 2 0 0 = nI n) (hr : SrI K n pos) : ∃ K', fX4_rankAll (gad G 2 0 0) (hp G K B) = some (0, hp G K' B, 0, 0) ∧ (∀ s, s < n → kka K' 23 0 0 s = nI (pos s)) ∧ kkh K' 415 2 0 0 = nI n ∧ (∀ g kd t k, g ≠ 415 → kkh K' g kd t k = kkh K g kd t k) ∧ (∀ kd t k i, kd ≠ 23 → kka K' kd t k i = kka K kd t k i) ∧ kkf K' = kkf K ∧ kkp K' = kkp K ∧ (∀ g kd t k, kd ≠ 2 → kkh K' g kd t k = kkh K g kd t k) := by
  obtain ⟨rk, r1, r2, r3⟩ := hr
  unfold fX4_rankAll
  rw [tg_2 hS, chk_t, hi_2 hS, hi_2 hS, h413, r1]
  by_cases c : rk = n
  · rw [if_pos (by rw [c])]
    exact ⟨K, rfl, r3 c, by rw [r1, c], fun _ _ _ _ _ => rfl, fun _ _ _ _ _ => rfl, rfl, rfl, fun _ _ _ _ _ => rfl⟩
  · rw [if_neg (by rw [nI_eq (by omega) (by omega)]; exact c), wI_2 hS]
    have a0 : at_ 0 = 0 := by
      have := (hO.1 0 h0).2
      rw [hO.2.2] at this; exact this
    have e1 := f_rank24 (K := ksI K 415 2 0 0 (nI n)) hS hO hn n 0 1000000 (by omega) (by omega) hb
    rw [if_neg (by omega), a0] at e1
    refine ⟨kRk (ksI K 415 2 0 0 (nI n)) n 0 pos, e1, fun s hs => ?_, ?_, fun g kd t k y => ?_, fun kd t k i y => ?_, rfl, rfl, fun g kd t k y => ?_⟩
    · rw [kRk_a, if_pos ⟨rfl, rfl, rfl, hs, Nat.zero_le _⟩]
    · rw [kRk_h, kh_I, if_pos ⟨rfl, rfl, rfl, rfl⟩]
    · rw [kRk_h, kh_I, if_neg (fun z => y z.1)]
    · rw [kRk_a, if_neg (fun z => y z.1), ka_I]
    · rw [kRk_h, kh_I, if_neg (fun z => y z.2.1)]
end RK
