set_option maxRecDepth 100000
theorem KS_ext {K K' : KS} (h1 : kkh K = kkh K') (h2 : kka K = kka K') (h3 : kkf K = kkf K') (h4 : kkp K = kkp K') : K = K' := Prod.ext h1 (Prod.ext h2 (Prod.ext h3 h4))
theorem chi_setI (σ : CS) (g a : Nat) (v : Int32) (g' a' : Nat) : chi (setI σ g a v) g' a' = if g' = g ∧ a' = a then v else chi σ g' a' := rfl
theorem cai_putI (σ : CS) (a j : Nat) (v : Int32) (a' j' : Nat) : cai (putI σ a j v) a' j' = if a' = a ∧ j' = j then v else cai σ a' j' := rfl
theorem chr_setR (σ : CS) (g a : Nat) (v : Option Nat) (g' a' : Nat) : chr (setR σ g a v) g' a' = if g' = g ∧ a' = a then v else chr σ g' a' := rfl
theorem car_putR (σ : CS) (a j : Nat) (v : Option Nat) (a' j' : Nat) : car (putR σ a j v) a' j' = if a' = a ∧ j' = j then v else car σ a' j' := rfl
/-! lists of the JDK, in any world -/
section JL
variable {σ : CS} {l e i n : Nat}
theorem J_size (h1 : cty σ l = 10) : fJ2_size l σ = some (chi σ 902 l, σ, 0, 0) := by
  simp only [fJ2_size, tg, h1, decide_true, chk_t, cret]
theorem J_chk (hi : i < n) (hn : n < 2 ^ 31) : fJ19_checkIndex (nI i) (nI n) σ = some (nI i, σ, 0, 0) := by
  unfold fJ19_checkIndex fJ14_checkIndex
  rw [if_neg (nI_pos (by omega)), if_pos (nI_lt hi hn)]
  rfl
theorem J_get (h1 : cty σ l = 10) (h2 : chr σ 901 l = some e) (h3 : cty σ e = 53) (h4 : chi σ 902 l = nI n) (h5 : n ≤ cln σ e) (hi : i < n) (hn : cln σ e < 2 ^ 31) : fJ2_get l (nI i) σ = some (car σ e i, σ, 0, 0) := by
  simp only [fJ2_get, tg, h1, decide_true, chk_t, h4, J_chk hi (show n < 2 ^ 31 by omega), cbn_0, fJ2_elementData, h2, drf_s, h3, ibn (show i < cln σ e by omega) hn, cret, cln_ (show i < 2 ^ 31 by omega)]
theorem J_set {x : Nat} (h1 : cty σ l = 10) (h2 : chr σ 901 l = some e) (h3 : cty σ e = 53) (h4 : chi σ 902 l = nI n) (h5 : n ≤ cln σ e) (hi : i < n) (hn : cln σ e < 2 ^ 31) (hx : isEl (cty σ x) = true) : fJ2_set l (nI i) x σ = some (car σ e i, putR σ e i (some x), 0, 0) := by
  simp only [fJ2_set, tg, h1, decide_true, chk_t, h4, J_chk hi (show n < 2 ^ 31 by omega), cbn_0, fJ2_elementData, h2, drf_s, h3, ibn (show i < cln σ e by omega) hn, cret, cln_ (show i < 2 ^ 31 by omega), hx]
/-- a list with room gets one more -/
theorem J_addR {x : Nat} (h1 : cty σ l = 10) (h2 : chr σ 901 l = some e) (h3 : cty σ e = 53) (h4 : chi σ 902 l = nI n) (h5 : n < cln σ e) (hn : cln σ e < 2 ^ 31) (hx : isEl (cty σ x) = true) :
    fJ2_add l x σ = some (1, setI (putR (setI σ 900 l (chi σ 900 l + 1)) e n (some x)) 902 l (nI (n + 1)), 0, 0) := by
  have e1 : chr (setI σ 900 l (chi σ 900 l + 1)) 901 l = some e := h2
  have e2 : chi (setI σ 900 l (chi σ 900 l + 1)) 902 l = nI n := by rw [chi_setI, if_neg (fun q => absurd q.1 (by decide))]; exact h4
  have e3 : cty (setI σ 900 l (chi σ 900 l + 1)) = cty σ := rfl
  have e4 : cln (setI σ 900 l (chi σ 900 l + 1)) = cln σ := rfl
  have e5 : cty (putR (setI σ 900 l (chi σ 900 l + 1)) e n (some x)) = cty σ := rfl
  have e6 : ¬ nI n = Int32.ofNat (cln σ e) := by
    show ¬ nI n = nI (cln σ e)
    rw [nI_eq (by omega) hn]; omega
  simp only [fJ2_add, tg, h1, decide_true, chk_t, e1, drf_s, e2, fJ2_add_2, e3, e4, h3, if_neg e6, hx, ibn h5 hn, cln_ (show n < 2 ^ 31 by omega), e5, cret, cbn_0, nI_1]
end JL
/-! fibers -/
section FB
variable {B : CS} {G : GA} {K : KS} {t k d h : Nat} {v : Int32}
theorem f_clear (hS : St G B) (ht : t = 100 ∨ t < gnt G) : fX5_clear (gad G 4 t 0) (hp G K B) = some (0, hp G (ksI (ksI K 502 4 t 0 0) 503 4 t 0 0) B, 0, 0) := by
  simp only [fX5_clear, tg_4 hS ht, chk_t, wI_502 hS ht, wI_503 hS ht, cret]
theorem f_isOver (hS : St G B) (ht : t = 100 ∨ t < gnt G) (hd : kkh K 502 4 t 0 = nI d) (h40 : d ≤ 40) : fX5_isOver (gad G 4 t 0) (hp G K B) = some (if d = 0 then 1 else 0, hp G K B, 0, 0) := by
  simp only [fX5_isOver, tg_4 hS ht, chk_t, hi_502 hS ht, hi_503 hS ht, hd, cret]
  by_cases c : d = 0
  · subst c; rw [if_pos nI_0, if_pos rfl]
  · rw [if_neg (nI_ne0 (by omega) (by omega)), if_neg c]
theorem f_push (hS : St G B) (ht : t = 100 ∨ t < gnt G) (hh : kkh K 503 4 t 0 = nI h) (h64 : h < 64) : fX5_push (gad G 4 t 0) v (hp G K B) = some (0, hp G (ksI (ksA K 40 t 0 h v) 503 4 t 0 (nI (h + 1))) B, 0, 0) := by
  simp only [fX5_push, tg_4 hS ht, chk_t, rf_501_4 hS ht, drf_s, tg_40 hS ht, hi_502 hS ht, hi_503 hS ht, hh, ln_40 hS ht, ibn h64 (show 64 < 2 ^ 31 by decide), cln_ (show h < 2 ^ 31 by omega), wA_40 hS ht h64, kh_A, wI_502 hS ht, wI_503 hS ht, nI_1, cret]
theorem f_pop (hS : St G B) (ht : t = 100 ∨ t < gnt G) (hh : kkh K 503 4 t 0 = nI (h + 1)) (h64 : h < 64) : fX5_pop (gad G 4 t 0) (hp G K B) = some (kka K 40 t 0 h, hp G (ksI K 503 4 t 0 (nI h)) B, 0, 0) := by
  simp only [fX5_pop, tg_4 hS ht, chk_t, hi_502 hS ht, hi_503 hS ht, hh, nI_pred, wI_502 hS ht, wI_503 hS ht, rf_501_4 hS ht, drf_s, tg_40 hS ht, kh_I, and_self, if_true, ln_40 hS ht, ibn h64 (show 64 < 2 ^ 31 by decide), cln_ (show h < 2 ^ 31 by omega), ai_40 hS ht h64, ka_I, cret]
theorem hi_50 (hS : St G B) (ht : t = 100 ∨ t < gnt G) {g : Nat} : chi (hp G K B) g (gad G 50 t 0) = chi B g (gad G 50 t 0) := hpB_hi (by rw [hS.ro (ok_50 ht)]; exact Nat.le_refl 50)
/-- a frame of a fiber out of its list -/
theorem f_frame (hS : St G B) (ht : t = 100 ∨ t < gnt G) (hk : k < gnf G t) : fJ2_get (gad G 50 t 0) (nI k) (hp G K B) = some (some (gad G 5 t k), hp G K B, 0, 0) := by
  obtain ⟨h1, h2, h3, h4, h5, h6⟩ := hS.2.2.1 t ht
  rw [J_get (σ := hp G K B) (e := gad G 60 t 0) (n := gnf G t) (ty_50 (B := B) hS ht) (rf_901_50 hS ht) (ty_60 (B := B) hS ht) (by rw [hi_50 hS ht]; exact h2) h3 hk (by show cln B _ < _; omega)]
  show some (car B (gad G 60 t 0) k, _) = _
  rw [h6 k hk]
theorem f_top (hS : St G B) (ht : t = 100 ∨ t < gnt G) (hd : kkh K 502 4 t 0 = nI (d + 1)) (hk : d < gnf G t) : fX5_top (gad G 4 t 0) (hp G K B) = some (some (gad G 5 t d), hp G K B, 0, 0) := by
  simp only [fX5_top, tg_4 hS ht, chk_t, rf_500_4 hS ht, drf_s, tg_50 hS ht, hi_502 hS ht, hi_503 hS ht, hd, nI_pred, f_frame hS ht hk, cbn_0, tg_5 hS ht hk, cret]
/-- a frame begins -/
def kBeg (K : KS) (t k : Nat) (nx fk : Int32) : KS :=
  mkK (fun g kd t' k' => if kd = 5 ∧ t' = t ∧ k' = k then (if g = 702 then nx else if g = 701 then fk else if g = 704 ∨ g = 705 then -1 else if g = 703 ∨ g = 706 ∨ g = 707 ∨ g = 708 ∨ g = 709 then 0 else kkh K g kd t' k') else kkh K g kd t' k')
    (fun kd t' k' i => if kd = 41 ∧ t' = t ∧ k' = k ∧ i < 26 then 0 else kka K kd t' k' i) (u2 (kkf K) t k none) (kkp K)
theorem f_begin0 (hS : St G B) (ht : t = 100 ∨ t < gnt G) (hk : k < gnf G t) : ∀ (m j n : Nat) (K : KS), j + m = 26 → m < n → fX10_begin_at12 n (gad G 5 t k) (nI j) (hp G K B) =
    some (0, hp G (ksF (ksI (ksI (ksI (ksI (ksI (ksI (ksI (mkK (kkh K) (fun kd t' k' i => if kd = 41 ∧ t' = t ∧ k' = k ∧ j ≤ i ∧ i < 26 then 0 else kka K kd t' k' i) (kkf K) (kkp K)) 704 5 t k (-1)) 705 5 t k (-1)) 709 5 t k 0) 708 5 t k 0) 707 5 t k 0) 706 5 t k 0) 703 5 t k 0) t k none) B, 0, 0) := by
  intro m
  induction m with
  | zero =>
    intro j n K hj hn
    obtain ⟨n, rfl⟩ : ∃ n', n = n' + 1 := ⟨n - 1, by omega⟩
    have e : (mkK (kkh K) (fun kd t' k' i => if kd = 41 ∧ t' = t ∧ k' = k ∧ j ≤ i ∧ i < 26 then 0 else kka K kd t' k' i) (kkf K) (kkp K)) = K := by
      have : (fun kd t' k' i => if kd = 41 ∧ t' = t ∧ k' = k ∧ j ≤ i ∧ i < 26 then 0 else kka K kd t' k' i) = kka K := by
        funext kd t' k' i
        rw [if_neg (by omega)]
      rw [this]; rfl
    rw [e, fX10_begin_at12, if_pos (by rw [show j = 26 by omega]; decide)]
    simp only [tg_5 hS ht hk, chk_t, wI_701 hS ht hk, wI_702 hS ht hk, wI_703 hS ht hk, wI_704 hS ht hk, wI_705 hS ht hk, wI_706 hS ht hk, wI_707 hS ht hk, wI_708 hS ht hk, wI_709 hS ht hk, cret]
    rw [show (none : Option Nat) = (none : Option (Nat × Nat)).map (fun q => gad G 5 q.1 q.2) from rfl, hp_wF hS (ok_5 ht hk)]
  | succ m ih =>
    intro j n K hj hn
    obtain ⟨n, rfl⟩ : ∃ n', n = n' + 1 := ⟨n - 1, by omega⟩
    rw [fX10_begin_at12, if_neg (by
      show ¬ nI 26 ≤ nI j
      rw [nI_leI (by decide) (by omega)]; omega)]
    simp only [tg_5 hS ht hk, chk_t, rf_700_5 hS ht hk, drf_s, tg_41 hS ht hk, ln_41 hS ht hk, ibn (show j < 26 by omega) (show 26 < 2 ^ 31 by decide), cln_ (show j < 2 ^ 31 by omega), wA_41 hS ht hk (show j < 26 by omega), nI_1]
    rw [ih (j + 1) n _ (by omega) (by omega)]
    have : (fun kd t' k' i => if kd = 41 ∧ t' = t ∧ k' = k ∧ j + 1 ≤ i ∧ i < 26 then 0 else kka (ksA K 41 t k j 0) kd t' k' i) = (fun kd t' k' i => if kd = 41 ∧ t' = t ∧ k' = k ∧ j ≤ i ∧ i < 26 then 0 else kka K kd t' k' i) := by
      funext kd t' k' i
      rw [ka_A]
      by_cases c : kd = 41 ∧ t' = t ∧ k' = k
      · by_cases c2 : i = j
        · rw [if_neg (by omega), if_pos ⟨c.1, c.2.1, c.2.2, c2⟩, if_pos ⟨c.1, c.2.1, c.2.2, by omega, by omega⟩]
        · by_cases c3 : j ≤ i ∧ i < 26
          · rw [if_pos ⟨c.1, c.2.1, c.2.2, by omega, by omega⟩, if_pos ⟨c.1, c.2.1, c.2.2, by omega, by omega⟩]
          · rw [if_neg (by omega), if_neg (by omega), if_neg (by omega)]
      · rw [if_neg (fun q => c ⟨q.1, q.2.1, q.2.2.1⟩), if_neg (fun q => c ⟨q.1, q.2.1, q.2.2.1⟩), if_neg (fun q => c ⟨q.1, q.2.1, q.2.2.1⟩)]
    rw [this]
    rfl
theorem f_begin (hS : St G B) (ht : t = 100 ∨ t < gnt G) (hk : k < gnf G t) {nx fk : Int32} (hz : zb fk = true) : fX10_begin (gad G 5 t k) nx fk (hp G K B) = some (0, hp G (kBeg K t k nx fk) B, 0, 0) := by
  simp only [fX10_begin, tg_5 hS ht hk, chk_t, hz, wI_701 hS ht hk, wI_702 hS ht hk, wI_703 hS ht hk, wI_704 hS ht hk, wI_705 hS ht hk, wI_706 hS ht hk, wI_707 hS ht hk, wI_708 hS ht hk, wI_709 hS ht hk]
  rw [show (0 : Int32) = nI 0 from rfl, f_begin0 hS ht hk 26 0 1000000 _ (by omega) (by omega)]
  have e : ∀ K1 : KS, ksF (ksI (ksI (ksI (ksI (ksI (ksI (ksI (mkK (kkh (ksI (ksI K1 702 5 t k nx) 701 5 t k fk)) (fun kd t' k' i => if kd = 41 ∧ t' = t ∧ k' = k ∧ 0 ≤ i ∧ i < 26 then 0 else kka (ksI (ksI K1 702 5 t k nx) 701 5 t k fk) kd t' k' i) (kkf (ksI (ksI K1 702 5 t k nx) 701 5 t k fk)) (kkp (ksI (ksI K1 702 5 t k nx) 701 5 t k fk))) 704 5 t k (-1)) 705 5 t k (-1)) 709 5 t k 0) 708 5 t k 0) 707 5 t k 0) 706 5 t k 0) 703 5 t k 0) t k none = kBeg K1 t k nx fk := by
    intro K1
    refine KS_ext ?_ ?_ rfl rfl
    · funext g kd t' k'
      show _ = (if kd = 5 ∧ t' = t ∧ k' = k then (if g = 702 then nx else if g = 701 then fk else if g = 704 ∨ g = 705 then -1 else if g = 703 ∨ g = 706 ∨ g = 707 ∨ g = 708 ∨ g = 709 then 0 else kkh K1 g kd t' k') else kkh K1 g kd t' k')
      simp only [kh_F, kh_I]
      by_cases c : kd = 5 ∧ t' = t ∧ k' = k
      · rw [if_pos c]
        simp only [c, and_self, and_true]
        by_cases c1 : g = 702
        · subst c1; simp; simp [mkK, kkh, ksI, u4]
        · by_cases c2 : g = 701
          · subst c2; simp; simp [mkK, kkh, ksI, u4]
          · by_cases c3 : g = 703 ∨ g = 704 ∨ g = 705 ∨ g = 706 ∨ g = 707 ∨ g = 708 ∨ g = 709
            · rcases c3 with c3 | c3 | c3 | c3 | c3 | c3 | c3 <;> subst c3 <;> simp
            · simp only [not_or] at c3
              simp only [c1, c2, c3, if_false, or_self]
              simp [mkK, kkh, ksI, u4, c1, c2]
      · rw [if_neg c]
        simp only [c, and_false, if_false]
        simp [mkK, kkh, ksI, u4, c]
    · funext kd t' k' i
      show (if kd = 41 ∧ t' = t ∧ k' = k ∧ 0 ≤ i ∧ i < 26 then 0 else kka K1 kd t' k' i) = (if kd = 41 ∧ t' = t ∧ k' = k ∧ i < 26 then 0 else kka K1 kd t' k' i)
      simp only [Nat.zero_le, true_and]
  rw [e]
  rfl
end FB
