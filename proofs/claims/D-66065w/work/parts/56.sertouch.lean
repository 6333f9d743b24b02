set_option maxRecDepth 100000
/-! the serial run: cells are touched -/
theorem cnt_out {td : Nat → Bool} {c : Nat} : ∀ n, n ≤ c → (List.range n).countP (u1 td c true) = (List.range n).countP td := by
  intro n
  induction n with
  | zero => intro _; rfl
  | succ n ih =>
    intro h
    rw [List.range_succ, List.countP_append, List.countP_append, ih (by omega)]
    congr 1
    simp only [List.countP_singleton, u1_n (show n ≠ c by omega)]
theorem cnt_in {td : Nat → Bool} {c : Nat} (hc : td c = false) : ∀ n, c < n → (List.range n).countP (u1 td c true) = (List.range n).countP td + 1 := by
  intro n
  induction n with
  | zero => intro h; omega
  | succ n ih =>
    intro h
    rw [List.range_succ, List.countP_append, List.countP_append]
    by_cases q : n = c
    · subst q
      rw [cnt_out n (Nat.le_refl _)]
      simp only [List.countP_singleton, u1_s, hc]
      simp
    · rw [ih (by omega)]
      simp only [List.countP_singleton, u1_n q]
      omega
theorem cnt_le {td : Nat → Bool} {c : Nat} (hc : td c = false) (h : c < 32) : (List.range 32).countP td < 32 := by
  have h1 := cnt_in hc 32 h
  have h2 : (List.range 32).countP (u1 td c true) ≤ (List.range 32).length := List.countP_le_length
  rw [List.length_range] at h2
  omega
theorem RwI.congr {n : Nat} {pos el : Nat → Nat} {S S' : Nat → Prop} {w : Option Nat} (h : RwI n pos el S w) (hs : ∀ s, s < n → (S s ↔ S' s)) : RwI n pos el S' w := by
  rcases h with ⟨h1, h2⟩ | ⟨r, h1, h2, h3, h4⟩
  · exact Or.inl ⟨h1, fun s q z => h2 s q ((hs s q).mpr z)⟩
  · exact Or.inr ⟨r, h1, h2, (hs r h1).mp h3, fun s q z => h4 s q ((hs s q).mpr z)⟩
/-- whether an element lies beside -/
def lsB (root : Nat → Nat) (bes : Nat → Bool) (w : Option Nat) : Bool := match w with
  | none => false
  | some e => bes (root e)
theorem lsB_iff {root : Nat → Nat} {bes : Nat → Bool} {w : Option Nat} : lsB root bes w = true ↔ ∃ y, w = some y ∧ bes (root y) = true := by
  cases w with
  | none => exact ⟨fun h => (by cases h), fun ⟨y, h, _⟩ => (by cases h)⟩
  | some e => exact ⟨fun h => ⟨e, rfl, h⟩, fun ⟨y, h, q⟩ => by cases h; exact q⟩
section TC
variable {G : GA} {B : CS} {P : PD} {K : KS} {f : MF} {a : MA} {n d ne wk c pl : Nat} {pos at_ st el W root dp : Nat → Nat} {isF bes td : Nat → Bool} {fe fbs : Nat → Option Nat} {fel : Nat → Nat} {lim wr : Bool}
/-- what is the same behind a touch -/
def SameT (K K' : KS) (f f' : MF) (a a' : MA) : Prop :=
  (∀ g kd t k, kd ≠ 6 → kkh K' g kd t k = kkh K g kd t k) ∧ (∀ kd t k i, ¬ (kd = 26 ∨ kd = 27 ∨ kd = 28) → kka K' kd t k i = kka K kd t k i) ∧ kkf K' = kkf K ∧ kkp K' = kkp K ∧ (∀ g, g ≠ 1364 → f' g = f g) ∧ ∀ j, ¬ (j = 36 ∨ j = 37 ∨ j = 38 ∨ j = 39) → a' j = a j
theorem SameT.keep {K' : KS} {f' : MF} {a' : MA} {G' : GA} {td' : Nat → Bool} (h : SerQ G P K f a n d ne wk pos at_ st el W root dp isF bes td fe fbs fel lim) (hs : SameT K K' f f' a a') (hc : ScI G' K' f' a' td') (hw : SwI K' a' n pos el td') : SerQ G' P K' f' a' n d ne wk pos at_ st el W root dp isF bes td' fe fbs fel lim := by
  obtain ⟨h1, h2, h3, h4, h5, h6, h7, h8, h9, h10⟩ := h
  obtain ⟨s1, s2, s3, s4, s5, s6⟩ := hs
  have k22 : kka K' 22 0 0 = kka K 22 0 0 := funext fun i => s2 22 0 0 i (by decide)
  refine ⟨?_, ?_, ?_, ?_, ?_, hc, hw, ?_, ?_, ?_⟩
  · unfold SnI
    rw [s1 413 _ _ _ (by decide), s1 414 _ _ _ (by decide), s1 418 _ _ _ (by decide), s5 _ (by decide), s5 _ (by decide)]; exact h1
  · unfold SoI
    rw [k22, s6 29 (by decide)]; exact h2
  · obtain ⟨rk, r1, r2, r3⟩ := h3
    exact ⟨rk, by rw [s1 _ _ _ _ (by decide)]; exact r1, r2, fun q s hs => by rw [s2 _ _ _ _ (by decide)]; exact r3 q s hs⟩
  · obtain ⟨p0, pr, p1, p2, p3, p4⟩ := h4
    exact ⟨by rw [s1 _ _ _ _ (by decide), s5 _ (by decide)]; exact p0, pr, by rw [s1 _ _ _ _ (by decide)]; exact p1, by rw [s5 _ (by decide)]; exact p2, p3, fun i hi => by rw [s2 _ _ _ _ (by decide), s6 40 (by decide)]; exact p4 i hi⟩
  · unfold SlI
    rw [s1 1004 _ _ _ (by decide), s1 1005 _ _ _ (by decide), s5 _ (by decide), s5 _ (by decide), s5 _ (by decide)]; exact h5
  · refine ⟨h8.1, fun k hk => ?_⟩
    rw [s1 701 _ _ _ (by decide), s1 705 _ _ _ (by decide), s1 704 _ _ _ (by decide), s1 703 _ _ _ (by decide), s1 708 _ _ _ (by decide), s1 706 _ _ _ (by decide), s1 707 _ _ _ (by decide), s6 31 (by decide), s6 30 (by decide), s6 32 (by decide), s6 34 (by decide), s6 35 (by decide)]
    exact h8.2 k hk
  · obtain ⟨g1, g2, ⟨u1_, u2_, u3_, u4_⟩, g4⟩ := h9
    refine ⟨?_, g2, ⟨u1_, u2_, u3_, fun e he => ?_⟩, fun e he => ?_⟩
    · have : jnB a' = jnB a := by unfold jnB; rw [s6 33 (by decide)]
      rw [this]; exact g1
    · rw [s2 _ _ _ _ (by decide)]; exact u4_ e he
    · rw [s2 _ _ _ _ (by decide)]; exact g4 e he
  · unfold PmI
    rw [s6 12 (by decide), s6 13 (by decide), s6 14 (by decide), s6 15 (by decide), s6 16 (by decide), s6 17 (by decide)]; exact h10
theorem oI_m1 {w : Option Nat} (h : ∀ e, w = some e → e < 2 ^ 31) : oI w = -1 ↔ w = none := by
  cases w with
  | none => exact ⟨fun _ => rfl, fun _ => rfl⟩
  | some e => exact ⟨fun q => absurd q (nI_m1 (h e rfl)), fun q => (by cases q)⟩
theorem sim_touch (hS : St G B) (hF : FkOk G K) (hQ : SerQ G P K f a n (d + 1) ne wk pos at_ st el W root dp isF bes td fe fbs fel lim) (hd : kkh K 502 4 100 0 = nI (d + 1)) (hk : d < gnf G 100) (hc : c < 32) :
    ∃ G' B' K' f' a' c1 s1 td', fX4_touch (gad G 2 0 0) (nI c) (nI pl) (zI wr) (hp G K B) = some (0, hp G' K' B', c1, s1) ∧ m_touch (nI c) (zI wr) (nI pl) f a = some (0, f', a') ∧ St G' B' ∧ Ext G B G' B' ∧ gnt G' = gnt G ∧ gnf G' = gnf G ∧ gnr G ≤ gnr G' ∧ c1 ≤ 2 * (gnr G' - gnr G) ∧ s1 ≤ 60 * (gnr G' - gnr G) ∧
      SameT K K' f f' a a' ∧ SerQ G' P K' f' a' n (d + 1) ne wk pos at_ st el W root dp isF bes td' fe fbs fel lim := by
  have hQ0 := hQ
  obtain ⟨⟨n1, n2, n3, n4, n5, n6, n7, n8⟩, ⟨o1, o2, o3⟩, h3, h4, h5, ⟨c1, c2, c3, c4⟩, h7, h8, ⟨g1, g2, g3, g4⟩, h10⟩ := hQ
  obtain ⟨rd, wt, r1, r2, r3, w1, w2, w3, w4⟩ := h7 c hc
  have hne : ∀ s, s < n → el s < ne := g2.1
  have wlt : ∀ e, wt = some e → e < ne := by
    intro e he
    rcases w4 with q | ⟨s, q1, q2⟩
    · rw [q] at he; cases he
    · rw [he] at q2; rw [Option.some.inj q2]; exact hne s q1
  have rlt : ∀ e, rd = some e → e < ne := by
    intro e he
    rcases r2 with ⟨q, -⟩ | ⟨s, q1, q2, -, -⟩
    · rw [q] at he; cases he
    · rw [he] at q2; rw [Option.some.inj q2]; exact hne s q1
  have LW : LsW K ne root (kka K 26 0 0 c) (lsB root bes wt) := by
    rw [w1]
    cases hw : wt with
    | none => exact Or.inl ⟨rfl, rfl⟩
    | some e => exact Or.inr ⟨e, wlt e hw, rfl, g4 _ (g3.1 e (wlt e hw)).2.1⟩
  have LR : LsW K ne root (kka K 27 0 0 c) (lsB root bes rd) := by
    rw [r1]
    cases hr : rd with
    | none => exact Or.inl ⟨rfl, rfl⟩
    | some e => exact Or.inr ⟨e, rlt e hr, rfl, g4 _ (g3.1 e (rlt e hr)).2.1⟩
  have own : kkh K 703 5 100 d = nI (el (n - 1)) := by
    have e1 := (h8.2 d (by omega)).2.2.2.2.2.1
    have e2 := (g2.2.1 d (by omega)).2.2
    rw [lim_top (by omega)] at e2
    rw [e1, e2]
  have bcur : hsb (a 29) (47 * (n - 1)) (n - 1) = false := by
    cases hx : hsb (a 29) (47 * (n - 1)) (n - 1) with
    | false => rfl
    | true => have := (o3 (n - 1) (n - 1) (by omega) (by omega)).mp hx; omega
  -- what is not before the current strand
  have nb : ∀ x, x < n → (¬ (hsb (a 29) (47 * (n - 1)) x = true ∨ x = n - 1) ↔ ¬ pos x ≤ pos (n - 1)) := by
    intro x hx
    rw [o3 (n - 1) x (by omega) (by omega)]
    by_cases q : x = n - 1
    · subst q
      simp
    · have : pos x ≠ pos (n - 1) := fun z => q (o1.inj hx (by omega) z)
      omega
  have fr := r2.found g2
  have fW : td c = false → ((∃ s, s < n ∧ (s < 1504 ∧ hsb (a 37) (47 * c) s = true) ∧ ¬ pos s ≤ pos (n - 1)) ↔ ∃ y, wt = some y ∧ bes (root y) = true) := fun q => (w3 q).found g2
  have fnd_iff : td c = false → (fnd a (n - 1) c wr ↔ (lsB root bes wt || (wr && lsB root bes rd)) = true) := by
    intro q
    rw [Bool.or_eq_true, Bool.and_eq_true, lsB_iff, lsB_iff, ← fW q, ← fr]
    unfold fnd
    constructor
    · rintro ⟨x, hx, h1, h2⟩
      rcases h1 with h1 | ⟨h1, h1'⟩
      · have xn := w2 x hx h1
        exact Or.inl ⟨x, xn, ⟨hx, h1⟩, (nb x xn).mp h2⟩
      · have xn := r3 x hx h1'
        exact Or.inr ⟨h1, x, xn, ⟨hx, h1'⟩, (nb x xn).mp h2⟩
    · rintro (⟨x, xn, ⟨hx, h1⟩, h2⟩ | ⟨h1, x, xn, ⟨hx, h1'⟩, h2⟩)
      · exact ⟨x, hx, Or.inl h1, (nb x xn).mpr h2⟩
      · exact ⟨x, hx, Or.inr ⟨h1, h1'⟩, (nb x xn).mpr h2⟩
  -- the cells' new readers and writers
  have key : ∀ (K1 : KS) (a1 : MA) (td' : Nat → Bool), (∀ kd t k i, kd ≠ 28 → kka K1 kd t k i = kka K kd t k i) → kkh K1 703 5 100 d = nI (el (n - 1)) → a1 36 = a 36 → a1 37 = a 37 → (∀ x, td' x = false → td x = false) → (td' c = false → ¬ (lsB root bes wt = true)) →
      SwI (kT80 K1 c d wr (lsB root bes rd)) (putB a1 (tgtA wr) (47 * c) (n - 1)) n pos el td' := by
    intro K1 a1 td' hk1 hown h36 h37 htd hnl c' hc'
    obtain ⟨rd', wt', r1', r2', r3', w1', w2', w3', w4'⟩ := h7 c' hc'
    have hb36 : ∀ s, s < 1504 → hsb (putB a1 (tgtA wr) (47 * c) (n - 1) 36) (47 * c') s = (hsb (a 36) (47 * c') s || decide (36 = tgtA wr ∧ c' = c ∧ s = n - 1)) := fun s hs => by rw [hsb_put (by omega) hs, h36]
    have hb37 : ∀ s, s < 1504 → hsb (putB a1 (tgtA wr) (47 * c) (n - 1) 37) (47 * c') s = (hsb (a 37) (47 * c') s || decide (37 = tgtA wr ∧ c' = c ∧ s = n - 1)) := fun s hs => by rw [hsb_put (by omega) hs, h37]
    by_cases cc : c' = c
    · subst cc
      have e1 : rd' = rd := by
        rw [r1] at r1'
        cases hx : rd with
        | none =>
          rw [hx] at r1'
          exact ((oI_m1 (w := rd') (by
            intro e he
            rcases r2' with ⟨q, -⟩ | ⟨s, q1, q2, -, -⟩
            · rw [q] at he; cases he
            · rw [he] at q2; have := hne s q1; rw [← Option.some.inj q2] at this; omega)).mp r1'.symm)
        | some e =>
          rw [hx] at r1'
          have q0 := rlt e hx
          cases hy : rd' with
          | none => rw [hy] at r1'; exact absurd r1' (nI_m1 (by omega))
          | some e' =>
            rw [hy] at r1'
            have q1 : e' < ne := by
              rcases r2' with ⟨q, -⟩ | ⟨s, q1, q2, -, -⟩
              · rw [hy] at q; cases q
              · rw [hy] at q2; rw [Option.some.inj q2]; exact hne s q1
            rw [(nI_eq (by omega) (by omega)).mp r1']
      cases hw : wr with
      | true =>
        rw [hw] at hb36 hb37
        have i36 : ∀ s, s < 1504 → hsb (putB a1 (tgtA true) (47 * c') (n - 1) 36) (47 * c') s = hsb (a 36) (47 * c') s := fun s hs => by rw [hb36 s hs, decide_eq_false (fun z => absurd z.1 (by decide)), Bool.or_false]
        have i37 : ∀ s, s < 1504 → (hsb (putB a1 (tgtA true) (47 * c') (n - 1) 37) (47 * c') s = true ↔ hsb (a 37) (47 * c') s = true ∨ s = n - 1) := fun s hs => by rw [hb37 s hs, Bool.or_eq_true, decide_eq_true_iff]; exact ⟨fun z => z.imp_right fun y => y.2.2, fun z => z.imp_right fun y => ⟨rfl, rfl, y⟩⟩
        refine ⟨rd', some (el (n - 1)), ?_, ?_, ?_, ?_, ?_, ?_, Or.inr ⟨n - 1, by omega, rfl⟩⟩
        · unfold kT80; rw [if_pos rfl, ka_A, if_neg (by omega), hk1 _ _ _ _ (by decide)]; exact r1'
        · exact r2'.congr fun s hs => by constructor <;> rintro ⟨z1, z2⟩ <;> exact ⟨z1, by first | rwa [i36 s z1] | rwa [i36 s z1] at z2⟩
        · intro s hs z; rw [i36 s hs] at z; exact r3' s hs z
        · unfold kT80; rw [if_pos rfl, ka_A, if_pos ⟨rfl, rfl, rfl, rfl⟩, hown]; rfl
        · intro s hs z
          rcases (i37 s hs).mp z with z | z
          · exact w2' s hs z
          · omega
        · intro q
          have q1 := w3 (htd _ q)
          have q2 := q1.write g2 n3 (fun z => hnl q (lsB_iff.mpr z))
          exact q2.congr fun s hs => by
            constructor
            · rintro (⟨z1, z2⟩ | z)
              · exact ⟨z1, (i37 s z1).mpr (Or.inl z2)⟩
              · exact ⟨by omega, (i37 s (by omega)).mpr (Or.inr z)⟩
            · rintro ⟨z1, z2⟩
              rcases (i37 s z1).mp z2 with z | z
              · exact Or.inl ⟨z1, z⟩
              · exact Or.inr z
      | false =>
        rw [hw] at hb36 hb37
        have i37 : ∀ s, s < 1504 → hsb (putB a1 (tgtA false) (47 * c') (n - 1) 37) (47 * c') s = hsb (a 37) (47 * c') s := fun s hs => by rw [hb37 s hs, decide_eq_false (fun z => absurd z.1 (by decide)), Bool.or_false]
        have i36 : ∀ s, s < 1504 → (hsb (putB a1 (tgtA false) (47 * c') (n - 1) 36) (47 * c') s = true ↔ hsb (a 36) (47 * c') s = true ∨ s = n - 1) := fun s hs => by rw [hb36 s hs, Bool.or_eq_true, decide_eq_true_iff]; exact ⟨fun z => z.imp_right fun y => y.2.2, fun z => z.imp_right fun y => ⟨rfl, rfl, y⟩⟩
        have cg : ∀ {w : Option Nat}, RwI n pos el (fun s => (s < 1504 ∧ hsb (a 36) (47 * c') s = true) ∨ s = n - 1) w → RwI n pos el (fun s => s < 1504 ∧ hsb (putB a1 (tgtA false) (47 * c') (n - 1) 36) (47 * c') s = true) w := fun q2 => q2.congr fun s hs => by
          constructor
          · rintro (⟨z1, z2⟩ | z)
            · exact ⟨z1, (i36 s z1).mpr (Or.inl z2)⟩
            · exact ⟨by omega, (i36 s (by omega)).mpr (Or.inr z)⟩
          · rintro ⟨z1, z2⟩
            rcases (i36 s z1).mp z2 with z | z
            · exact Or.inl ⟨z1, z⟩
            · exact Or.inr z
        have b36 : ∀ s, s < 1504 → hsb (putB a1 (tgtA false) (47 * c') (n - 1) 36) (47 * c') s = true → s < n := by
          intro s hs z
          rcases (i36 s hs).mp z with z | z
          · exact r3' s hs z
          · omega
        have w3'' : td' c' = false → RwI n pos el (fun s => s < 1504 ∧ hsb (putB a1 (tgtA false) (47 * c') (n - 1) 37) (47 * c') s = true) wt' := fun q => (w3' (htd _ q)).congr fun s hs => by constructor <;> rintro ⟨z1, z2⟩ <;> exact ⟨z1, by first | rwa [i37 s z1] | rwa [i37 s z1] at z2⟩
        have b37 : ∀ s, s < 1504 → hsb (putB a1 (tgtA false) (47 * c') (n - 1) 37) (47 * c') s = true → s < n := fun s hs z => by rw [i37 s hs] at z; exact w2' s hs z
        cases hl : lsB root bes rd with
        | true =>
          refine ⟨rd', wt', ?_, ?_, b36, ?_, b37, w3'', w4'⟩
          · unfold kT80; rw [if_neg (by decide), if_pos rfl, hk1 _ _ _ _ (by decide)]; exact r1'
          · rw [e1]; exact cg ((r2.read g2 n3).1 (lsB_iff.mp hl))
          · unfold kT80; rw [if_neg (by decide), if_pos rfl, hk1 _ _ _ _ (by decide)]; exact w1'
        | false =>
          refine ⟨some (el (n - 1)), wt', ?_, ?_, b36, ?_, b37, w3'', w4'⟩
          · unfold kT80; rw [if_neg (by decide), if_neg (by decide), ka_A, if_pos ⟨rfl, rfl, rfl, rfl⟩, hown]; rfl
          · exact cg ((r2.read g2 n3).2 (fun z => by rw [lsB_iff.mpr z] at hl; cases hl))
          · unfold kT80; rw [if_neg (by decide), if_neg (by decide), ka_A, if_neg (by omega), hk1 _ _ _ _ (by decide)]; exact w1'
    · -- another cell
      have i36 : ∀ s, s < 1504 → hsb (putB a1 (tgtA wr) (47 * c) (n - 1) 36) (47 * c') s = hsb (a 36) (47 * c') s := fun s hs => by rw [hb36 s hs, decide_eq_false (fun z => cc z.2.1), Bool.or_false]
      have i37 : ∀ s, s < 1504 → hsb (putB a1 (tgtA wr) (47 * c) (n - 1) 37) (47 * c') s = hsb (a 37) (47 * c') s := fun s hs => by rw [hb37 s hs, decide_eq_false (fun z => cc z.2.1), Bool.or_false]
      have ka0 : ∀ kd, kd = 26 ∨ kd = 27 → kka (kT80 K1 c d wr (lsB root bes rd)) kd 0 0 c' = kka K kd 0 0 c' := by
        intro kd hkd
        unfold kT80
        by_cases q1 : wr = true
        · rw [if_pos q1, ka_A, if_neg (fun z => cc z.2.2.2), hk1 _ _ _ _ (by omega)]
        · rw [if_neg q1]
          by_cases q2 : lsB root bes rd = true
          · rw [if_pos q2, hk1 _ _ _ _ (by omega)]
          · rw [if_neg q2, ka_A, if_neg (fun z => cc z.2.2.2), hk1 _ _ _ _ (by omega)]
      refine ⟨rd', wt', by rw [ka0 27 (by omega)]; exact r1', r2'.congr fun s hs => ?_, fun s hs z => ?_, by rw [ka0 26 (by omega)]; exact w1', fun s hs z => ?_, fun q => (w3' (htd _ q)).congr fun s hs => ?_, w4'⟩
      · constructor <;> rintro ⟨z1, z2⟩ <;> exact ⟨z1, by first | rwa [i36 s z1] | rwa [i36 s z1] at z2⟩
      · rw [i36 s hs] at z; exact r3' s hs z
      · rw [i37 s hs] at z; exact w2' s hs z
      · constructor <;> rintro ⟨z1, z2⟩ <;> exact ⟨z1, by first | rwa [i37 s z1] | rwa [i37 s z1] at z2⟩
  have t28 := c3 c hc
  have tgt36 : tgtA wr = 36 ∨ tgtA wr = 37 := by unfold tgtA; split <;> omega
  have t80h : ∀ (K1 : KS), kkh (kT80 K1 c d wr (lsB root bes rd)) = kkh K1 := by intro K1; unfold kT80; split; rfl; split <;> rfl
  have t80a : ∀ (K1 : KS) kd t k i, ¬ (kd = 26 ∨ kd = 27) → kka (kT80 K1 c d wr (lsB root bes rd)) kd t k i = kka K1 kd t k i := by
    intro K1 kd t k i q
    unfold kT80
    split
    · rw [ka_A, if_neg (by omega)]
    · split
      · rfl
      · rw [ka_A, if_neg (by omega)]
  have t80f : ∀ (K1 : KS), kkf (kT80 K1 c d wr (lsB root bes rd)) = kkf K1 := by intro K1; unfold kT80; split; rfl; split <;> rfl
  have t80p : ∀ (K1 : KS), kkp (kT80 K1 c d wr (lsB root bes rd)) = kkp K1 := by intro K1; unfold kT80; split; rfl; split <;> rfl
  have pB : ∀ (A : MA) j, ¬ (j = 36 ∨ j = 37) → putB A (tgtA wr) (47 * c) (n - 1) j = A j := fun A j q => by unfold putB; exact u2_o (by omega)
  by_cases hf : td c = false ∧ fnd a (n - 1) c wr
  · -- a race
    have hl := (fnd_iff hf.1).mp hf.2
    have r32 : gnr G < 32 := by rw [c2]; exact cnt_le hf.1 hc
    obtain ⟨G', B', x1, x2, e1, e2, e3, e4, e5, e6, e7, e8⟩ := f_touch1 (pl := nI pl) (wr := wr) hS hk hd g3 hc hF r32 LW LR hl (by rw [t28.1, hf.1]; rfl)
    rw [n5] at e1
    have m1 := mm_touch1 (pl := nI pl) n6 (by omega) hc bcur (by rw [t28.2, hf.1]; rfl) hf.2 c1 r32
    generalize hK1 : kRace (ksA K 28 0 0 c 1) (gnr G) (nI c) (nI pl) (zI wr) (nI (n - 1)) = K1 at e1
    have ka1 : ∀ kd t k i, kka K1 kd t k i = if kd = 28 ∧ t = 0 ∧ k = 0 ∧ i = c then 1 else kka K kd t k i := by intro kd t k i; rw [← hK1]; rfl
    have kh1 : ∀ g kd t k, kd ≠ 6 → kkh K1 g kd t k = kkh K g kd t k := by
      intro g kd t k q
      rw [← hK1, kh_R, if_neg (fun z => q z.1), if_neg (fun z => q z.1), if_neg (fun z => q z.1), if_neg (fun z => q z.1)]
      rfl
    have rA : ∀ j, ¬ (j = 38 ∨ j = 39) → racA a c (n - 1) (gnr G) wr (nI pl) j = a j := by
      intro j q
      unfold racA
      rw [u2_o (by omega), u2_o (by omega), u2_o (by omega), u2_o (by omega), u2_o (by omega)]
    refine ⟨G', B', _, _, _, x1, x2, u1 td c true, e1, m1, e2, e3, e4, e5, by omega, by omega, by omega, ?_, SameT.keep hQ0 (K' := kT80 K1 c d wr (lsB root bes rd)) ?_ ?_ ?_⟩
    · refine ⟨fun g kd t k q => ?_, fun kd t k i q => ?_, ?_, ?_, fun g q => u1_n q, fun j q => ?_⟩
      · rw [t80h]; exact kh1 g kd t k q
      · rw [t80a _ _ _ _ _ (by omega), ka1, if_neg (by omega)]
      · rw [t80f, ← hK1]; rfl
      · rw [t80p, ← hK1]; rfl
      · rw [pB _ j (by omega)]; exact rA j (by omega)
    · refine ⟨fun g kd t k q => ?_, fun kd t k i q => ?_, ?_, ?_, fun g q => u1_n q, fun j q => ?_⟩
      · rw [t80h]; exact kh1 g kd t k q
      · rw [t80a _ _ _ _ _ (by omega), ka1, if_neg (by omega)]
      · rw [t80f, ← hK1]; rfl
      · rw [t80p, ← hK1]; rfl
      · rw [pB _ j (by omega)]; exact rA j (by omega)
    · refine ⟨by rw [u1_s, e6], by rw [e6, c2, cnt_in hf.1 32 hc], fun c' hc' => ?_, fun i hi => ?_⟩
      · rw [t80a _ _ _ _ _ (by omega), ka1, pB _ 38 (by omega)]
        by_cases q : c' = c
        · rw [if_pos ⟨rfl, rfl, rfl, q⟩, q, u1_s]
          refine ⟨rfl, ?_⟩
          unfold racA
          rw [u2_n (by omega), u2_n (by omega), u2_n (by omega), u2_n (by omega), u2_s]; rfl
        · rw [if_neg (fun z => q z.2.2.2), u1_n q]
          refine ⟨(c3 c' hc').1, ?_⟩
          unfold racA
          rw [u2_n (by omega), u2_n (by omega), u2_n (by omega), u2_n (by omega), u2_n (by omega)]; exact (c3 c' hc').2
      · rw [t80h, pB _ 39 (by omega)]
        rw [e6] at hi
        by_cases q : i = gnr G
        · subst q
          refine (fun (h1 : _ ∧ _ ∧ _ ∧ _) (h2 : _ ∨ _) => ⟨h1.1, h1.2.1, h1.2.2.1, h1.2.2.2, h2⟩) ?_ ?_
          rotate_left
          · have k2 : kkh K1 802 6 0 (gnr G) = zI wr := by
              rw [← hK1, kh_R]
              simp
            rw [k2]
            cases wr
            · exact Or.inl rfl
            · exact Or.inr rfl
          rw [← hK1, kh_R, kh_R, kh_R, kh_R]
          unfold racA
          simp
          rw [u2_n (by omega), u2_n (by omega), u2_n (by omega), u2_s, u2_n (by omega), u2_n (by omega), u2_s, u2_n (by omega), u2_s, u2_s]
          exact ⟨rfl, rfl, rfl, rfl⟩
        · have q4 := c4 i (by omega)
          have k6 : ∀ g, kkh K1 g 6 0 i = kkh K g 6 0 i := by
            intro g
            rw [← hK1, kh_R, if_neg (fun z => q z.2.2.1), if_neg (fun z => q z.2.2.1), if_neg (fun z => q z.2.2.1), if_neg (fun z => q z.2.2.1)]; rfl
          have a39 : ∀ z, z < 4 → racA a c (n - 1) (gnr G) wr (nI pl) 39 (4 * i + z) = a 39 (4 * i + z) := by
            intro z hz
            unfold racA
            rw [u2_n (by omega), u2_n (by omega), u2_n (by omega), u2_n (by omega), u2_n (by omega)]
          rw [k6, k6, k6, k6, a39 1 (by omega), a39 2 (by omega), a39 3 (by omega)]
          have := a39 0 (by omega)
          rw [Nat.add_zero] at this
          rw [this]; exact q4
    · refine key K1 _ _ (fun kd t k i q => by rw [ka1, if_neg (by omega)]) (by rw [kh1 _ _ _ _ (by decide)]; exact own) (rA 36 (by omega)) (rA 37 (by omega)) (fun x hx => ?_) (fun q => by rw [u1_s] at q; cases q)
      by_cases q : x = c
      · rw [q, u1_s] at hx; cases hx
      · rw [u1_n q] at hx; exact hx
  · -- none
    have e1 := f_touch0 (pl := nI pl) (wr := wr) hS hk hd g3 hc LW LR (by
      rintro ⟨z1, z2⟩
      rw [t28.1, zI_0] at z2
      exact hf ⟨z2, (fnd_iff z2).mpr z1⟩)
    have m1 := mm_touch0 (pl := nI pl) (wr := wr) n6 (by omega) hc bcur (by
      by_cases q : td c = false
      · exact Or.inr (fun z => hf ⟨q, z⟩)
      · left; rw [t28.2, zI_0]; exact q)
    refine ⟨G, B, _, _, _, 0, 0, td, e1, m1, hS, Ext.refl G B, rfl, rfl, Nat.le_refl _, by omega, by omega, ?_, SameT.keep hQ0 (K' := kT80 K c d wr (lsB root bes rd)) ?_ ?_ ?_⟩
    · exact ⟨fun g kd t k q => by rw [t80h], fun kd t k i q => t80a _ _ _ _ _ (by omega), t80f K, t80p K, fun g q => rfl, fun j q => pB a j (by omega)⟩
    · exact ⟨fun g kd t k q => by rw [t80h], fun kd t k i q => t80a _ _ _ _ _ (by omega), t80f K, t80p K, fun g q => rfl, fun j q => pB a j (by omega)⟩
    · refine ⟨c1, c2, fun c' hc' => ?_, fun i hi => ?_⟩
      · rw [t80a _ _ _ _ _ (by omega), pB _ 38 (by omega)]; exact c3 c' hc'
      · rw [t80h, pB _ 39 (by omega)]; exact c4 i hi
    · refine key K a td (fun _ _ _ _ _ => rfl) own rfl rfl (fun _ h => h) (fun q z => ?_)
      exact hf ⟨q, (fnd_iff q).mpr (by rw [z]; rfl)⟩
end TC
