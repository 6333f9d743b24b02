set_option maxRecDepth 100000
/-! the list of races is cleared: what lay in it is of no role any more -/
def ExtW (G : GA) (B : CS) (G' : GA) (B' : CS) : Prop :=
  (∀ kd t k, okR G kd t k → kd < 60 → kd ≠ 6 → okR G' kd t k ∧ gad G' kd t k = gad G kd t k) ∧ csz B ≤ csz B' ∧ ∀ x, x < csz B → 90 ≤ (gro G x).1 → 90 ≤ (gro G' x).1 ∧ Agr x B B'
theorem Ext.w {G G' : GA} {B B' : CS} (h : Ext G B G' B') : ExtW G B G' B' := ⟨fun kd t k q q2 _ => h.1 kd t k q q2, h.2⟩
theorem ExtW.refl (G : GA) (B : CS) : ExtW G B G B := (Ext.refl G B).w
theorem ExtW.trans {G G' G'' : GA} {B B' B'' : CS} (h : ExtW G B G' B') (h' : ExtW G' B' G'' B'') : ExtW G B G'' B'' :=
  ⟨fun kd t k q q2 q3 => ⟨(h'.1 _ _ _ (h.1 _ _ _ q q2 q3).1 q2 q3).1, ((h'.1 _ _ _ (h.1 _ _ _ q q2 q3).1 q2 q3).2).trans (h.1 _ _ _ q q2 q3).2⟩, Nat.le_trans h.2.1 h'.2.1, fun x hx q => ⟨(h'.2.2 x (Nat.lt_of_lt_of_le hx h.2.1) (h.2.2 x hx q).1).1, (h.2.2 x hx q).2.trans (h'.2.2 x (Nat.lt_of_lt_of_le hx h.2.1) (h.2.2 x hx q).1).2⟩⟩
theorem PrA.extW {G G' : GA} {B B' : CS} {P : PD} {pa : Nat} {al ia : Nat → Nat} (h : PrA G B P pa al ia) (hE : ExtW G B G' B') : PrA G' B' P pa al ia := by
  obtain ⟨h1, h2, h3, ⟨a1, a2, a3, a4, a5⟩, ⟨b1, b2, b3, b4, b5, b6, b7⟩, ⟨c1, c2, c3⟩, ⟨d1, d2, d3⟩, ⟨e1, e2, e3⟩, f1⟩ := h
  obtain ⟨-, hz, hA⟩ := hE
  have Ap := hA pa h1.2 h1.1
  have A0 := hA (al 0) (h2 0 (by omega)).2 (h2 0 (by omega)).1
  have A1 := hA (al 1) (h2 1 (by omega)).2 (h2 1 (by omega)).1
  have A2 := hA (al 2) (h2 2 (by omega)).2 (h2 2 (by omega)).1
  have A3 := hA (al 3) (h2 3 (by omega)).2 (h2 3 (by omega)).1
  have A4 := hA (al 4) (h2 4 (by omega)).2 (h2 4 (by omega)).1
  have Ai := fun i hi => hA (ia i) (h3 i hi).2 (h3 i hi).1
  refine ⟨⟨Ap.1, by omega⟩, fun j hj => ⟨(hA (al j) (h2 j hj).2 (h2 j hj).1).1, by have := (h2 j hj).2; omega⟩, fun i hi => ⟨(Ai i hi).1, by have := (h3 i hi).2; omega⟩, ?_, ?_, ?_, ?_, ?_, fun i hi => ?_⟩
  · rw [Ap.2.1, Ap.2.2.2.2.1, Ap.2.2.2.2.1, Ap.2.2.2.2.1, Ap.2.2.2.2.1]; exact ⟨a1, a2, a3, a4, a5⟩
  · rw [A0.2.1, A0.2.2.2.2.1, A0.2.2.2.1, A1.2.1, A1.2.2.1, A1.2.2.2.2.2.2]; exact ⟨b1, b2, b3, b4, b5, b6, b7⟩
  · rw [A2.2.1, A2.2.2.1, A2.2.2.2.2.2.1]; exact ⟨c1, c2, c3⟩
  · rw [A3.2.1, A3.2.2.1, A3.2.2.2.2.2.1]; exact ⟨d1, d2, d3⟩
  · rw [A4.2.1, A4.2.2.1, A4.2.2.2.2.2.1]; exact ⟨e1, e2, e3⟩
  · obtain ⟨_, q1, q2, q3, q4, q5, q6⟩ := Ai i hi
    rw [q1, q4, q3, q3]; exact f1 i hi
/-- nulls in an array of references -/
def nuls : Nat → CS → Nat → Nat → CS
  | 0, σ, _, _ => σ
  | m + 1, σ, e, i => nuls m (putR σ e i none) e (i + 1)
theorem nuls_ty (m : Nat) : ∀ (σ : CS) (e i : Nat), cty (nuls m σ e i) = cty σ ∧ cln (nuls m σ e i) = cln σ ∧ chi (nuls m σ e i) = chi σ ∧ chr (nuls m σ e i) = chr σ ∧ cai (nuls m σ e i) = cai σ ∧ csz (nuls m σ e i) = csz σ ∧ ∀ x, x ≠ e → car (nuls m σ e i) x = car σ x := by
  induction m with
  | zero => intro σ e i; exact ⟨rfl, rfl, rfl, rfl, rfl, rfl, fun _ _ => rfl⟩
  | succ m ih =>
    intro σ e i
    obtain ⟨h1, h2, h3, h4, h5, h6, h7⟩ := ih (putR σ e i none) e (i + 1)
    refine ⟨h1, h2, h3, h4, h5, h6, fun x hx => ?_⟩
    show car (nuls m (putR σ e i none) e (i + 1)) x = _
    rw [h7 x hx]
    funext j
    exact if_neg (fun z => hx z.1)
theorem nuls_hp {G : GA} {K : KS} (m : Nat) : ∀ (B : CS) (e i : Nat), nuls m (hp G K B) e i = hp G K (nuls m B e i) := by
  induction m with
  | zero => intro B e i; rfl
  | succ m ih =>
    intro B e i
    show nuls m (putR (hp G K B) e i none) e (i + 1) = _
    rw [hpB_putR, ih]; rfl
theorem J_clr27 {l e n : Nat} : ∀ (m i N : Nat) (σ : CS), i + m = n → m < N → cty σ e = 53 → n ≤ cln σ e → cln σ e < 2 ^ 31 → fJ2_clear_at27 N l (some e) (nI n) (nI i) σ = some (0, nuls m σ e i, 0, 0) := by
  intro m
  induction m with
  | zero =>
    intro i N σ h1 h2 h3 h4 h5
    obtain ⟨M, rfl⟩ : ∃ M, N = M + 1 := ⟨N - 1, by omega⟩
    rw [fJ2_clear_at27, if_pos (by rw [nI_leI (by omega) (by omega)]; omega)]; rfl
  | succ m ih =>
    intro i N σ h1 h2 h3 h4 h5
    obtain ⟨M, rfl⟩ : ∃ M, N = M + 1 := ⟨N - 1, by omega⟩
    have t : tg σ e 53 = true := decide_eq_true h3
    rw [fJ2_clear_at27, if_neg (by rw [nI_leI (by omega) (by omega)]; omega), drf_s, t, chk_t, ibn (show i < cln σ e by omega) h5, chk_t, nI_1, cln_ (show i < 2 ^ 31 by omega)]
    exact ih (i + 1) M (putR σ e i none) (by omega) (by omega) h3 h4 h5
section CR_
variable {G : GA} {B : CS} {K : KS}
/-- roles of races are taken back -/
def noR (G : GA) : GA := mkG (gad G) (fun x => if (gro G x).1 = 6 then (99, 0, 0) else gro G x) (gnt G) (gnf G) 0
theorem noR_ok {kd t k : Nat} : okR (noR G) kd t k ↔ okR G kd t k ∧ kd ≠ 6 := by
  unfold okR
  show (if kd = 4 ∨ kd = 40 ∨ kd = 50 ∨ kd = 60 then (t = 100 ∨ t < gnt G) ∧ k = 0 else if kd = 5 ∨ kd = 41 then (t = 100 ∨ t < gnt G) ∧ k < gnf G t else if kd = 6 then t = 0 ∧ k < 0 else t = 0 ∧ k = 0 ∧ kd ∈ singles) ↔ _
  by_cases c1 : kd = 4 ∨ kd = 40 ∨ kd = 50 ∨ kd = 60
  · rw [if_pos c1, if_pos c1]
    exact ⟨fun h => ⟨h, by omega⟩, fun h => h.1⟩
  · rw [if_neg c1, if_neg c1]
    by_cases c2 : kd = 5 ∨ kd = 41
    · rw [if_pos c2, if_pos c2]
      exact ⟨fun h => ⟨h, by omega⟩, fun h => h.1⟩
    · rw [if_neg c2, if_neg c2]
      by_cases c3 : kd = 6
      · rw [if_pos c3, if_pos c3]
        exact ⟨fun h => absurd h.2 (Nat.not_lt_zero _), fun h => absurd c3 h.2⟩
      · rw [if_neg c3, if_neg c3]
        exact ⟨fun h => ⟨h, c3⟩, fun h => h.1⟩
theorem noR_ro {x : Nat} : gro (noR G) x = if (gro G x).1 = 6 then (99, 0, 0) else gro G x := rfl
theorem noR_hp (B1 : CS) : hp (noR G) K (hp G K B1) = hp G K B1 := by
  have e1 : chi (hp (noR G) K (hp G K B1)) = chi (hp G K B1) := by
    funext g x
    rw [hp_chi, noR_ro]
    by_cases c : (gro G x).1 = 6
    · rw [if_pos c, if_neg (fun z => absurd z.1 (by decide))]
    · rw [if_neg c, hp_chi]
      by_cases c2 : (gro G x).1 < 50 ∧ relG g (gro G x).1 = true
      · rw [if_pos c2, if_pos c2]
      · rw [if_neg c2]
  have e2 : chr (hp (noR G) K (hp G K B1)) = chr (hp G K B1) := by
    funext g x
    rw [hp_chr, noR_ro]
    by_cases c : (gro G x).1 = 6
    · rw [if_pos c, if_neg (fun z => absurd z.2 (by decide)), if_neg]
      unfold dynI
      repeat' split
      all_goals omega
    · rw [if_neg c]
      show (if g = 710 ∧ (gro G x).1 = 5 then (kkf K (gro G x).2.1 (gro G x).2.2).map (fun p => gad G 5 p.1 p.2) else if dynI g (gro G x).1 ≠ 0 then kkp K (dynI g (gro G x).1) else chr (hp G K B1) g x) = _
      rw [hp_chr]
      by_cases c2 : g = 710 ∧ (gro G x).1 = 5
      · rw [if_pos c2, if_pos c2]
      · rw [if_neg c2]
        by_cases c3 : dynI g (gro G x).1 ≠ 0
        · rw [if_pos c3, if_neg c2, if_pos c3]
        · rw [if_neg c3]
  have e3 : cai (hp (noR G) K (hp G K B1)) = cai (hp G K B1) := by
    funext x i
    rw [hp_cai, noR_ro]
    by_cases c : (gro G x).1 = 6
    · rw [if_pos c, if_neg (fun z => absurd z.1 (by decide))]
    · rw [if_neg c, hp_cai]
      by_cases c2 : (gro G x).1 < 50 ∧ i < lenk (gro G x).1
      · rw [if_pos c2, if_pos c2]
      · rw [if_neg c2]
  show mkC (cty B1) (cln B1) (chi (hp (noR G) K (hp G K B1))) (chr (hp (noR G) K (hp G K B1))) (cai (hp (noR G) K (hp G K B1))) (car B1) (csz B1) = _
  rw [e1, e2, e3]; rfl
theorem f_clrRaces (hS : St G B) : ∃ B', fJ2_clear (gad G 52 0 0) (hp G K B) = some (0, hp (noR G) K B', 0, 0) ∧ St (noR G) B' ∧ ExtW G B (noR G) B' ∧ csz B' = csz B := by
  have o52 : okR G 52 0 0 := ok_1 (by decide)
  have o62 : okR G 62 0 0 := ok_1 (by decide)
  generalize hl : gad G 52 0 0 = l
  generalize he : gad G 62 0 0 = e
  have gl : gro G l = (52, 0, 0) := by rw [← hl]; exact hS.ro o52
  have ge : gro G e = (62, 0, 0) := by rw [← he]; exact hS.ro o62
  have hl50 : 50 ≤ (gro G l).1 := by rw [gl]; exact (by decide : 50 ≤ 52)
  obtain ⟨-, L1, L2, L3, L4, L5⟩ := hS.2.2.2.2.2
  rw [hl] at L1
  rw [he] at L2 L3 L4 L5
  have n32 := hS.2.2.2.2.2.1
  generalize hn : gnr G = n at *
  have tl : tg (hp G K B) l 10 = true := by rw [← hl]; exact hp_tg hS o52 rfl
  have rl : chr (hp G K B) 901 l = some e := by rw [← hl, ← he]; exact hp_rf hS (by decide) o52
  have te : cty B e = 53 := by rw [← he]; exact (hS.1.1 _ _ _ o62).2.2.1
  generalize hB0 : setI (setI B 900 l (chi B 900 l + 1)) 902 l 0 = B0
  have b0 : setI (setI (hp G K B) 900 l (chi (hp G K B) 900 l + 1)) 902 l 0 = hp G K B0 := by rw [hpB_hi hl50, hpB_setI hl50, hpB_setI hl50, hB0]
  generalize hB1 : nuls n B0 e 0 = B1
  obtain ⟨m1, m2, m3, m4, m5, m6, m7⟩ := nuls_ty n B0 e 0
  rw [hB1] at m1 m2 m3 m4 m5 m6 m7
  have k1 : cty B1 = cty B := by rw [m1, ← hB0]; rfl
  have k2 : cln B1 = cln B := by rw [m2, ← hB0]; rfl
  have k4 : chr B1 = chr B := by rw [m4, ← hB0]; rfl
  have k5 : cai B1 = cai B := by rw [m5, ← hB0]; rfl
  have k6 : csz B1 = csz B := by rw [m6, ← hB0]; rfl
  have k3 : ∀ g x, x ≠ l → chi B1 g x = chi B g x := by
    intro g x hx
    rw [m3, ← hB0]
    show u2 (u2 (chi B) 900 l (chi B 900 l + 1)) 902 l 0 g x = _
    rw [u2_n (fun z => hx z.2), u2_n (fun z => hx z.2)]
  have k7 : ∀ x, x ≠ e → car B1 x = car B x := by
    intro x hx
    rw [m7 x hx, ← hB0]; rfl
  have hchr : chr (hp G K B1) = chr (hp G K B) := by
    funext g x
    rw [hp_chr, hp_chr, k4]
  have hcl : fJ2_clear l (hp G K B) = some (0, hp G K B1, 0, 0) := by
    unfold fJ2_clear
    rw [tl, chk_t, b0]
    have r1 : chr (setI (hp G K B) 900 l (chi (hp G K B) 900 l + 1)) 901 l = some e := rl
    have r2 : chi (setI (hp G K B) 900 l (chi (hp G K B) 900 l + 1)) 902 l = nI n := by
      show u2 (chi (hp G K B)) 900 l (chi (hp G K B) 900 l + 1) 902 l = _
      rw [u2_n (by omega), hpB_hi hl50]; exact L1
    rw [r1, r2]
    have q := J_clr27 (l := l) (e := e) (n := n) n 0 1000000 (hp G K B0) (by omega) (by omega) (by show cty B0 e = 53; rw [← hB0]; exact te) (by show n ≤ cln B0 e; rw [← hB0]; exact L2) (by show cln B0 e < _; rw [← hB0]; show cln B e < _; omega)
    rw [show (0 : Int32) = nI 0 from rfl, q, nuls_hp, hB1]; rfl
  have hro : ∀ kd t k, okR G kd t k → kd ≠ 6 → gro (noR G) (gad G kd t k) = (kd, t, k) := by
    intro kd t k hr h6
    rw [noR_ro, hS.ro hr]
    exact if_neg h6
  refine ⟨hp G K B1, by rw [hcl, noR_hp], ⟨⟨fun kd t k hr => ?_, fun x hx => ?_⟩, ⟨fun g kd kd' hs t k hr => ?_, ?_⟩, ?_⟩, ⟨fun kd t k hr _ h6 => ⟨noR_ok.mpr ⟨hr, h6⟩, rfl⟩, ?_, fun x hx h9 => ⟨?_, ?_⟩⟩, by rw [hp_sz]; exact k6⟩
  · obtain ⟨r1, r2⟩ := noR_ok.mp hr
    obtain ⟨a1, a2, a3, a4⟩ := hS.1.1 kd t k r1
    refine ⟨?_, hro _ _ _ r1 r2, ?_, fun q => ?_⟩
    · show gad G kd t k < csz B1
      rw [k6]; exact a1
    · show cty B1 (gad G kd t k) = _
      rw [k1]; exact a3
    · show cln B1 (gad G kd t k) = _
      rw [k2]; exact a4 q
  · rw [noR_ro] at hx ⊢
    by_cases c : (gro G x).1 = 6
    · rw [if_pos c] at hx; exact absurd hx (by decide)
    · rw [if_neg c] at hx ⊢
      have := hS.1.2 x hx
      exact ⟨noR_ok.mpr ⟨this.1, c⟩, this.2⟩
  · rw [hchr]
    exact hp_rf hS hs (noR_ok.mp hr).1
  · rw [hchr]; exact hp_406 hS
  · have ls : ∀ kl ke t nn M (f : Nat → Nat), okR G kl t 0 → okR G ke t 0 → 50 ≤ kl → kl ≠ 52 → ke ≠ 62 → LsI G B kl ke t nn M f → LsI (noR G) (hp G K B1) kl ke t nn M f := by
      intro kl ke t nn M f r1 r2 h50 h52 h62 hL
      obtain ⟨x1, x2, x3, x4, x5⟩ := hL
      have y1 : gad G kl t 0 ≠ l := by
        intro z
        have := hS.ro r1
        rw [z, gl] at this
        exact h52 (by cases this; rfl)
      have y2 : gad G ke t 0 ≠ e := by
        intro z
        have := hS.ro r2
        rw [z, ge] at this
        exact h62 (by cases this; rfl)
      refine ⟨?_, ?_, ?_, ?_, fun k hk => ?_⟩
      · show chi (hp G K B1) 902 (gad G kl t 0) = _
        rw [hpB_hi (by rw [hS.ro r1]; exact h50), k3 _ _ y1]; exact x1
      · show nn ≤ cln B1 (gad G ke t 0)
        rw [k2]; exact x2
      · show 2 ≤ cln B1 (gad G ke t 0)
        rw [k2]; exact x3
      · show cln B1 (gad G ke t 0) ≤ M
        rw [k2]; exact x4
      · show car B1 (gad G ke t 0) k = _
        rw [k7 _ y2]; exact x5 k hk
    refine ⟨fun t ht => ⟨(hS.2.2.1 t ht).1, ls 50 60 t _ _ _ (ok_50 ht) (ok_60 ht) (by omega) (by omega) (by omega) (hS.2.2.1 t ht).2⟩, hS.2.2.2.1, ls 51 61 0 _ _ _ (ok_1 (by decide)) (ok_1 (by decide)) (by omega) (by omega) (by omega) hS.2.2.2.2.1, by show (0 : Nat) ≤ 32; omega, ?_⟩
    refine ⟨?_, ?_, ?_, ?_, fun k hk => absurd hk (Nat.not_lt_zero _)⟩
    · show chi (hp G K B1) 902 (gad G 52 0 0) = nI 0
      rw [hl, hpB_hi hl50, m3, ← hB0]
      show u2 (u2 (chi B) 900 l (chi B 900 l + 1)) 902 l 0 902 l = _
      rw [u2_s]; rfl
    · exact Nat.zero_le _
    · show 2 ≤ cln B1 (gad G 62 0 0)
      rw [k2, he]; exact L3
    · show cln B1 (gad G 62 0 0) ≤ 64
      rw [k2, he]; exact L4
  · rw [hp_sz, k6]; exact Nat.le_refl _
  · rw [noR_ro, if_neg (by omega)]; exact h9
  · have xl : x ≠ l := fun z => by rw [z, gl] at h9; exact absurd h9 (by decide)
    have xe : x ≠ e := fun z => by rw [z, ge] at h9; exact absurd h9 (by decide)
    refine ⟨by rw [hp_ty, k1], by rw [hp_ln, k2], fun g => by rw [hpB_hi (by omega), k3 _ _ xl], fun g => by rw [hpB_rf h9, k4], ?_, by rw [hp_ar, k7 _ xe]⟩
    funext i
    rw [hpB_ai (by omega), k5]
end CR_
