set_option maxRecDepth 100000
/-! the serial run: a forked one leaves -/
section LW
variable {G : GA} {B : CS} {P : PD} {K : KS} {f : MF} {a : MA} {n d ne wk tm : Nat} {pos at_ st el W root dp : Nat → Nat} {isF bes td : Nat → Bool} {fe fbs : Nat → Option Nat} {fel : Nat → Nat} {lim : Bool}
def lvF (f : MF) (n : Nat) (t : Int32) : MF := u1 (u1 (u1 (u1 (u1 (u1 f 1352 (f 1352 + 1)) 1350 (nI (n + 1))) 1351 (nI n)) 1352 t) 1348 0) 1353 0
theorem lvF_o {g : Nat} {t : Int32} (h : g ≠ 1352 ∧ g ≠ 1350 ∧ g ≠ 1351 ∧ g ≠ 1348 ∧ g ≠ 1353) : lvF f n t g = f g := by
  unfold lvF
  rw [u1_n h.2.2.2.2, u1_n h.2.2.2.1, u1_n h.1, u1_n h.2.2.1, u1_n h.2.1, u1_n h.1]
theorem lvF_1352 {t : Int32} : lvF f n t 1352 = t := by
  unfold lvF
  rw [u1_n (by decide), u1_n (by decide), u1_s]
theorem lvF_1350 {t : Int32} : lvF f n t 1350 = nI (n + 1) := by
  unfold lvF
  rw [u1_n (by decide), u1_n (by decide), u1_n (by decide), u1_n (by decide), u1_s]
theorem lvF_1351 {t : Int32} : lvF f n t 1351 = nI n := by
  unfold lvF
  rw [u1_n (by decide), u1_n (by decide), u1_n (by decide), u1_s]
theorem lvF_1348 {t : Int32} : lvF f n t 1348 = 0 := by
  unfold lvF
  rw [u1_n (by decide), u1_s]
theorem lvF_1353 {t : Int32} : lvF f n t 1353 = 0 := by
  unfold lvF
  rw [u1_s]
theorem sim_leave (hS : St G B) (hk : d + 1 < gnf G 100) (hQ : SerQ G P K f a n (d + 2) ne wk pos at_ st el W root dp isF bes td fe fbs fel lim) (hw : wk < 2 ^ 30) (t1 : kkh K 409 2 0 0 = nI tm) (t2 : f 1352 = nI tm) (t3 : tm ≤ wk) (h15 : n < 1500) (hf : isF (d + 1) = true) (he : fe (d + 1) = none) :
    ∃ K' n' pos' at' el' W' root' dp' bes' fe' fbs' bt, fX4_leave (gad G 2 0 0) (gad G 5 100 (d + 1)) (gad G 5 100 d) (hp G (kEnd K (d + 1)) B) = some (0, hp G K' B, 0, 0) ∧ kkh K' 409 2 0 0 = nI bt ∧ a 35 (d + 1) = nI bt ∧ bt ≤ wk ∧ st (d + 1) - 1 < n ∧ a 34 (d + 1) = nI (st (d + 1) - 1) ∧
      SerQ G P K' (lvF f n (a 35 (d + 1))) (lvA a d (n - 1) n (st (d + 1) - 1) (tmx (a 32 d) (f 1352 + 1))) n' (d + 1) ne (wk + 1) pos' at' st el' W' root' dp' isF bes' td fe' fbs' fel lim ∧
      (∀ g kd t k, ¬ (kd = 2 ∧ (g = 413 ∨ g = 414 ∨ g = 409)) → ¬ (kd = 5 ∧ t = 100 ∧ k = d ∧ (g = 704 ∨ g = 705 ∨ g = 708)) → ¬ (g = 502 ∧ kd = 4 ∧ t = 100) → kkh K' g kd t k = kkh K g kd t k) ∧ (∀ kd t k i, kd ≠ 22 → kd ≠ 24 → kd ≠ 25 → kka K' kd t k i = kka K kd t k i) ∧ kkf K' = kkf K ∧ kkp K' = kkp K ∧ kkh K' 502 4 100 0 = nI (d + 1) := by
  obtain ⟨s1, s2, s3, s4, s5, s6, s7, s8, s9, s10⟩ := hQ
  obtain ⟨n1, n2, n3, n4, n6, n7, n8, n9⟩ := s1
  obtain ⟨f1, f2, f3, f4, f5, f6, ⟨lt, l1, l2, l3, l4⟩, f8⟩ := s8.2 d (by omega)
  obtain ⟨c1, c2, bt, c3, c4, c5⟩ := f8 (by omega) hf
  obtain ⟨-, -, -, -, -, r6, -⟩ := s8.2 (d + 1) (by omega)
  obtain ⟨g1, g2, ⟨u1_, u2_, u3_, u4_⟩, g4⟩ := s9
  obtain ⟨o1, o2, o3⟩ := s2
  have hst1 := g1.1 (d + 1) (by omega)
  have hst0 := (g1.2.1 d (by omega)).2 hf
  have hun : st (d + 1) - 1 < n := by omega
  obtain ⟨y1, y2, y3⟩ := g2.2.1 (d + 1) (by omega)
  have hr := (u1_ _ y1).2.1
  have rr := u1_.rr y1
  have hu3 := g1.2.2.1 (d + 1) (by omega)
  have hu4 := g1.2.2.2.1 (d + 1) (by omega) hf
  generalize hrr : root (fel (d + 1)) = r at *
  generalize huu : st (d + 1) - 1 = u at *
  have hup : ∀ s, s < n → pos s ≤ pos u → s ≤ u := by
    intro s hs hp
    have z1 := (hu4 u (by omega)).mpr (Nat.le_refl _)
    by_cases c : s < st (d + 1)
    · omega
    · have := (hu3 s hs (by omega)).1
      omega
  have k703 : kkh (kEnd K (d + 1)) 703 5 100 (d + 1) = nI (fel (d + 1)) := by rw [kE_h (by omega) (by omega)]; exact r6
  have k706 : kkh (kEnd K (d + 1)) 706 5 100 d = nI u := by rw [kE_h (by omega) (by omega)]; exact c1
  have k413 : kkh (kEnd K (d + 1)) 413 2 0 0 = nI n := by rw [kE_h (by omega) (by omega)]; exact n1
  have hUK : UfK (kEnd K (d + 1)) ne n W root dp := ⟨u1_, u2_, u3_, u4_⟩
  have hlv := f_leave hS hk hUK k413 h15 k703 y1 k706 hun
  rw [hrr] at hlv
  have h704 : kkh (kEnd K (d + 1)) 704 5 100 d = oI (fbs d) := by rw [kE_h (by omega) (by omega)]; exact f5
  have h705 : kkh (kEnd K (d + 1)) 705 5 100 d = oI (fe d) := by rw [kE_h (by omega) (by omega)]; exact f4
  have h414 : kkh (kEnd K (d + 1)) 414 2 0 0 = nI (n - 1) := by rw [kE_h (by omega) (by omega)]; exact n6
  have h708 : kkh (kEnd K (d + 1)) 708 5 100 d = nI lt := by rw [kE_h (by omega) (by omega)]; exact l1
  have h707 : kkh (kEnd K (d + 1)) 707 5 100 d = nI bt := by rw [kE_h (by omega) (by omega)]; exact c3
  have h409 : kkh (kEnd K (d + 1)) 409 2 0 0 = nI (tm + 1) := by rw [kE_409, t1, nI_1]
  have ht1 : f 1352 + 1 = nI (tm + 1) := by rw [t2, nI_1]
  -- the bags
  obtain ⟨b', root', W', dp', hb1, hb2, hb3, hb4, hb5⟩ : ∃ b' root' W' dp', ((fbs d = none ∧ b' = r ∧ root' = root) ∨ (fbs d = some b' ∧ root' = lnk root r b')) ∧ UfI ne (n + 1) W' root' dp' ∧ b' < ne ∧ (if oI (fbs d) = -1 then nI r else oI (fbs d)) = nI b' ∧ (∀ e, e < ne → (if e = r then (if oI (fbs d) = -1 then kka K 24 0 0 r else oI (fbs d)) else kka K 24 0 0 e) = nI (W' e)) := by
    cases hb : fbs d with
    | none =>
      refine ⟨r, root, W, dp, Or.inl ⟨rfl, rfl, rfl⟩, u1_.more (by omega), hr, if_pos rfl, fun e he => ?_⟩
      by_cases c : e = r
      · rw [if_pos c, if_pos (show oI none = -1 from rfl), c]; exact u4_ r hr
      · rw [if_neg c]; exact u4_ e he
    | some b =>
      obtain ⟨x1, x2, x3⟩ : b < ne ∧ root b = b ∧ bes b = true := by
        rcases g2.2.2.2.2.1 d (by omega) with q | ⟨e', b2, z1, z2, z3, z4, z5⟩
        · rw [hb] at q; cases q.2
        · rw [hb] at z2; cases z2; exact ⟨z3, z4, z5⟩
      have hbr : b ≠ r := fun z => by rw [z, y2] at x3; cases x3
      have hnm : ¬ oI (some b) = -1 := nI_m1 (by omega)
      refine ⟨b, lnk root r b, u1 W r b, lnkD root dp r, Or.inr ⟨rfl, rfl⟩, u1_.link hr x1 rr x2 hbr, x1, by rw [if_neg hnm]; rfl, fun e he => ?_⟩
      by_cases c : e = r
      · rw [if_pos c, if_neg hnm, c, u1_s]; rfl
      · rw [if_neg c, u1_n c]; exact u4_ e he
  generalize hKL : kLv (kEnd K (d + 1)) d r u n = KL at hlv
  have kO : ∀ g kd t k, ¬ (kd = 2 ∧ (g = 413 ∨ g = 414 ∨ g = 409)) → ¬ (kd = 5 ∧ t = 100 ∧ k = d ∧ (g = 704 ∨ g = 705 ∨ g = 708)) → ¬ (g = 502 ∧ kd = 4 ∧ t = 100) → kkh KL g kd t k = kkh K g kd t k := by
    intro g kd t k x1 x2 x3
    rw [← hKL, kL_o x1 x2, kE_h (by omega) x3]
  have kA : ∀ kd t k i, kd ≠ 22 → ¬ (kd = 25 ∧ i = r) → ¬ (kd = 24 ∧ i = r) → kka KL kd t k i = kka K kd t k i := by
    intro kd t k i x1 x2 x3
    rw [← hKL, kL_a x1 x2 x3]; rfl
  have hfr := g1.leave o1 (by omega) hf he
  have hbg := g2.leave g1 o1 u1_ (by omega) hf he (r := r) (b' := b') (root' := root') hrr.symm hb1
  have ed : d + 2 - 2 = d := by omega
  have ed1 : d + 2 - 1 = d + 1 := by omega
  rw [ed, ed1, huu] at hfr hbg
  refine ⟨KL, n + 1, ins n u pos, insA n (pos u) at_, u1 el n (fel d), W', root', dp', u1 bes r true, u1 fe d (some ((fe d).getD (n - 1))), u1 fbs d (some b'), bt, hlv, by rw [← hKL, kL_409, h707], c4, c5, hun, c2, ?_, kO, fun kd t k i x1 x2 x3 => kA _ _ _ _ x1 (by omega) (by omega), by rw [← hKL, kL_f]; rfl, by rw [← hKL, kL_p]; rfl, by rw [← hKL, kL_o (by omega) (by omega), kE_502]⟩
  refine ⟨?_, ?_, ?_, ?_, ?_, ?_, ?_, ?_, ?_, ?_⟩
  · exact ⟨by rw [← hKL, kL_413], lvF_1350, by omega, by omega, by rw [← hKL, kL_414]; rfl, lvF_1351, by rw [kO _ _ _ _ (by omega) (by omega) (by omega)]; exact n8, by omega⟩
  · refine SoI.grow ⟨o1, o2, o3⟩ hun (by rw [← hKL, kL_22]; rfl) (fun t s ht hs => lvA_29o (by omega) hun h15 hs) (fun s hs => ?_)
    rw [lvA_29n hun h15 hs, Bool.or_eq_true, o3 _ _ (by omega) hs, decide_eq_true_eq]
    constructor
    · rintro (y | y)
      · exact ⟨by omega, by omega⟩
      · exact ⟨by omega, by rw [y]; exact Nat.le_refl _⟩
    · rintro ⟨x1, x2⟩
      by_cases c : s = u
      · exact Or.inr c
      · refine Or.inl ⟨?_, ?_⟩
        · have := hup s x1 x2
          omega
        · have : pos s ≠ pos u := fun z => c (o1.inj x1 (by omega) z)
          omega
  · exact s3.grow (kO _ _ _ _ (by omega) (by omega) (by omega))
  · obtain ⟨p0, pr, p1, p2, p3, p4⟩ := s4
    refine ⟨?_, pr, ?_, by rw [lvF_o (by omega)]; exact p2, p3, fun i hi => ?_⟩
    · rw [kO _ _ _ _ (by omega) (by omega) (by omega), lvF_1353, p0]; exact s5.2.2.2.1 (by omega)
    · rw [kO _ _ _ _ (by omega) (by omega) (by omega)]; exact p1
    · rw [kA _ _ _ _ (by decide) (by omega) (by omega), lvA_o (by omega)]; exact p4 i hi
  · obtain ⟨x1, x2, x3⟩ := s5
    refine ⟨?_, by rw [lvF_o (by omega)]; exact x2, ?_, fun _ => lvF_1353, by rw [kO _ _ _ _ (by omega) (by omega) (by omega)]; exact x3.2.2⟩
    · rw [kO _ _ _ _ (by omega) (by omega) (by omega)]; exact x1
    · rw [lvF_1348, decide_eq_false (by omega)]; rfl
  · obtain ⟨x1, x2, x3, x4⟩ := s6
    refine ⟨by rw [lvF_o (by omega)]; exact x1, x2, fun c hc => ?_, fun i hi => ?_⟩
    · rw [kA _ _ _ _ (by decide) (by omega) (by omega), lvA_o (by omega)]; exact x3 c hc
    · rw [kO _ _ _ _ (by omega) (by omega) (by omega), kO _ _ _ _ (by omega) (by omega) (by omega), kO _ _ _ _ (by omega) (by omega) (by omega), kO _ _ _ _ (by omega) (by omega) (by omega), lvA_o (by omega)]; exact x4 i hi
  · exact s7.grow (fun c => kA _ _ _ _ (by decide) (by omega) (by omega)) (fun c => kA _ _ _ _ (by decide) (by omega) (by omega)) (lvA_o (by omega)) (lvA_o (by omega))
  · refine ⟨s8.1, fun k hk => ?_⟩
    by_cases c : k = d
    · subst c
      rw [u1_s, u1_s, lvA_o (j := 31) (by omega), lvA_o (j := 30) (by omega), lvA_32, if_pos rfl, kO 701 _ _ _ (by omega) (by omega) (by omega), kO 703 _ _ _ (by omega) (by omega) (by omega), ← hKL, kL_704, kL_705, kL_708, h704, h705, h414, h708, h409]
      refine ⟨f1, f2, ?_, ?_, hb4, f6, ⟨max lt (tm + 1), tmc_nI (by omega) (by omega), ?_, by omega, fun z => by cases z⟩, fun y => by omega⟩
      · rw [f3, hf, decide_eq_true (by omega), Bool.true_and, Bool.or_true]; rfl
      · cases hfe : fe k with
        | none => rw [if_pos (show oI none = -1 from rfl)]; rfl
        | some e =>
          have : e < n := by
            have z := (g1.2.2.2.2.1 k (by omega) e hfe).2.1
            have z2 := (g1.lim_ge (k := k) (by omega)).2
            omega
          rw [if_neg (show ¬ oI (some e) = -1 from nI_m1 (by omega))]; rfl
      · rw [l2, ht1, tmx_nI (by omega) (by omega)]
    · rw [u1_n c, u1_n c, lvA_o (j := 31) (by omega), lvA_o (j := 30) (by omega), lvA_o (j := 34) (by omega), lvA_o (j := 35) (by omega), lvA_32, if_neg c, kO 701 _ _ _ (by omega) (by omega) (by omega), kO 703 _ _ _ (by omega) (by omega) (by omega), kO 704 _ _ _ (by omega) (by omega) (by omega), kO 705 _ _ _ (by omega) (by omega) (by omega), kO 706 _ _ _ (by omega) (by omega) (by omega), kO 707 _ _ _ (by omega) (by omega) (by omega), kO 708 _ _ _ (by omega) (by omega) (by omega)]
      obtain ⟨x1, x2, x3, x4, x5, x6, ⟨lt', m1, m2, m3, m4⟩, x8⟩ := s8.2 k (by omega)
      refine ⟨x1, x2, ?_, x4, x5, x6, ⟨lt', m1, m2, by omega, m4⟩, fun z1 z2 => ?_⟩
      · rw [x3, decide_eq_true (show k + 1 < d + 2 by omega), decide_eq_true (show k + 1 < d + 1 by omega)]
      · obtain ⟨v1, v2, bt', v3, v4, v5⟩ := x8 (by omega) z2
        exact ⟨v1, v2, bt', v3, v4, by omega⟩
  · refine ⟨?_, hbg, ⟨hb2, u2_, by omega, fun x hx => ?_⟩, fun x hx => ?_⟩
    · have ej : jnB (lvA a d (n - 1) n u (tmx (a 32 d) (f 1352 + 1))) = u1 (jnB a) d (fun s => jnB a d s ∨ s < n ∧ pos s ≤ pos (n - 1)) := by
        funext k s
        apply propext
        unfold jnB
        by_cases c : k = d
        · subst c
          rw [u1_s]
          constructor
          · rintro ⟨x1, x2⟩
            rw [lvA_33 (by omega) x1, if_pos rfl, Bool.or_eq_true, Bool.or_eq_true, o3 _ _ (by omega) x1, decide_eq_true_eq] at x2
            rcases x2 with (y | y) | y
            · exact Or.inl ⟨x1, y⟩
            · exact Or.inr ⟨by omega, by omega⟩
            · exact Or.inr ⟨by omega, by rw [y]; exact Nat.le_refl _⟩
          · intro z
            have x1 : s < 1504 := by
              rcases z with y | y
              · exact y.1
              · omega
            refine ⟨x1, ?_⟩
            rw [lvA_33 (by omega) x1, if_pos rfl, Bool.or_eq_true, Bool.or_eq_true, o3 _ _ (by omega) x1, decide_eq_true_eq]
            rcases z with y | ⟨y1, y2⟩
            · exact Or.inl (Or.inl y.2)
            · by_cases c : s = n - 1
              · exact Or.inr c
              · refine Or.inl (Or.inr ⟨by omega, ?_⟩)
                have : pos s ≠ pos (n - 1) := fun z => c (o1.inj y1 (by omega) z)
                omega
        · rw [u1_n c]
          constructor
          · rintro ⟨x1, x2⟩
            rw [lvA_33 (by omega) x1, if_neg c] at x2
            exact ⟨x1, x2⟩
          · rintro ⟨x1, x2⟩
            refine ⟨x1, ?_⟩
            rw [lvA_33 (by omega) x1, if_neg c]; exact x2
      rw [ej]; exact hfr
    · rw [← hb5 x hx]
      by_cases c : x = r
      · rw [if_pos c, c, ← hKL, kL_24, h704]; rfl
      · rw [if_neg c, kA _ _ _ _ (by decide) (by omega) (by omega)]
    · by_cases c : x = r
      · rw [c, u1_s, ← hKL, kL_25]; rfl
      · rw [u1_n c, kA _ _ _ _ (by decide) (by omega) (by omega)]; exact g4 x hx
  · unfold PmI
    rw [lvA_o (j := 12) (by omega), lvA_o (j := 13) (by omega), lvA_o (j := 14) (by omega), lvA_o (j := 15) (by omega), lvA_o (j := 16) (by omega), lvA_o (j := 17) (by omega)]; exact s10
end LW
