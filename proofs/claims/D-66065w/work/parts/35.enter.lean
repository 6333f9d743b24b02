set_option maxRecDepth 100000
/-! a procedure is entered -/
section KB
variable {K : KS} {t k : Nat} {nx fk : Int32}
theorem kh_B (g kd t' k' : Nat) : kkh (kBeg K t k nx fk) g kd t' k' = if kd = 5 ∧ t' = t ∧ k' = k then (if g = 702 then nx else if g = 701 then fk else if g = 704 ∨ g = 705 then -1 else if g = 703 ∨ g = 706 ∨ g = 707 ∨ g = 708 ∨ g = 709 then 0 else kkh K g kd t' k') else kkh K g kd t' k' := rfl
theorem ka_B (kd t' k' i : Nat) : kka (kBeg K t k nx fk) kd t' k' i = if kd = 41 ∧ t' = t ∧ k' = k ∧ i < 26 then 0 else kka K kd t' k' i := rfl
theorem kf_B (t' k' : Nat) : kkf (kBeg K t k nx fk) t' k' = if t' = t ∧ k' = k then none else kkf K t' k' := rfl
theorem kp_B : kkp (kBeg K t k nx fk) = kkp K := rfl
end KB
/-- forkers are frames that are there -/
def FkOk (G : GA) (K : KS) : Prop := ∀ t k p, okR G 5 t k → kkf K t k = some p → okR G 5 p.1 p.2
def kNew (K : KS) (t k : Nat) : KS := mkK (fun g kd t' k' => if kd = 5 ∧ t' = t ∧ k' = k then 0 else kkh K g kd t' k') (fun kd t' k' i => if kd = 41 ∧ t' = t ∧ k' = k then 0 else kka K kd t' k' i) (u2 (kkf K) t k none) (kkp K)
section EN
variable {B : CS} {G : GA} {K : KS} {t d : Nat} {nx fk : Int32}
theorem f_enter29 (hS : St G B) (ht : t = 100 ∨ t < gnt G) (hd : kkh K 502 4 t 0 = nI d) (hk : d < gnf G t) (hz : zb fk = true) : fX5_enter_at29 (gad G 4 t 0) nx fk (hp G K B) = some (some (gad G 5 t d), hp G (ksI (kBeg K t d nx fk) 502 4 t 0 (nI (d + 1))) B, 0, 0) := by
  have e : kkh (kBeg K t d nx fk) 502 4 t 0 = nI d := by rw [kh_B, if_neg (by omega)]; exact hd
  simp only [fX5_enter_at29, tg_4 hS ht, chk_t, rf_500_4 hS ht, drf_s, tg_50 hS ht, hi_502 hS ht, hd, f_frame hS ht hk, cbn_0, tg_5 hS ht hk, f_begin hS ht hk hz, e, nI_1, wI_502 hS ht, cret]
/-- a frame more -/
theorem f_newFrame (hS : St G B) (ht : t = 100 ∨ t < gnt G) (h40 : gnf G t < 40) (hF : FkOk G K) :
    ∃ G' B' c s, (∀ (α : Type) (Q : CS → CR α) (y : α) (σ : CS) (c0 s0 : Nat), Q (hp G' (kNew K t (gnf G t)) B') = some (y, σ, c0, s0) →
      cal 1 11 (cbn (fX10_init (csz B) (newO (hp G K B) 8)) (fun _ s38 => drf (chr (hp G K B) 500 (gad G 4 t 0)) (fun a44 => chk (tg s38 a44 10) (cbn (fJ2_add a44 (csz B) s38) (fun _ s48 => Q s48))))) = some (y, σ, c0 + c, s0 + s)) ∧
      St G' B' ∧ Ext G B G' B' ∧ gnt G' = gnt G ∧ gnr G' = gnr G ∧ gnf G' = u1 (gnf G) t (gnf G t + 1) ∧ c ≤ 3 ∧ s ≤ 101 := by
  generalize hn : gnf G t = n at h40
  generalize hl : gad G 50 t 0 = l
  generalize he : gad G 60 t 0 = e
  have o50 := ok_50 (G := G) ht
  have o60 := ok_60 (G := G) ht
  have lz : l < csz B := by rw [← hl]; exact hS.lt o50
  have ez : e < csz B := by rw [← he]; exact hS.lt o60
  have gl : gro G l = (50, t, 0) := by rw [← hl]; exact hS.ro o50
  have ge : gro G e = (60, t, 0) := by rw [← he]; exact hS.ro o60
  have lne : l ≠ e := by intro q; rw [q, ge] at gl; simp at gl
  obtain ⟨-, L1, L2, L3, L4, L5⟩ := hS.2.2.1 t ht
  rw [hn] at L1 L2 L5
  rw [hl] at L1
  rw [he] at L2 L3 L4 L5
  have out0 := hS.out (Nat.le_refl (csz B))
  have out1 := hS.out (show csz B ≤ csz B + 1 by omega)
  have out2 := hS.out (show csz B ≤ csz B + 2 by omega)
  -- the world with the new frame and its variables
  generalize hB3 : setR (newA (newO B 8) 50 26) 700 (csz B) (some (csz B + 1)) = B3
  have z3 : csz B3 = csz B + 2 := by rw [← hB3]; rfl
  have A3 : ∀ y, y < csz B → Agr y B B3 := by
    intro y hy
    rw [← hB3]
    exact ((Agr.newO (by omega)).trans (Agr.newA (by show y ≠ csz B + 1; omega))).trans (Agr.setR (by omega))
  have t3 : cty B3 (csz B) = 8 := by
    rw [← hB3]
    show (if csz B = csz B + 1 then 50 else if csz B = csz B then 8 else _) = _
    rw [if_neg (by omega), if_pos rfl]
  have t3' : cty B3 (csz B + 1) = 50 := by rw [← hB3]; exact if_pos rfl
  have n3' : cln B3 (csz B + 1) = 26 := by rw [← hB3]; exact if_pos rfl
  have i3 : ∀ g, chi B3 g (csz B) = 0 := by intro g; rw [← hB3]; exact if_pos rfl
  have r3 : chr B3 700 (csz B) = some (csz B + 1) := by rw [← hB3]; exact if_pos ⟨rfl, rfl⟩
  have f3 : chr B3 710 (csz B) = none := by
    rw [← hB3]
    rw [chr_setR, if_neg (by omega)]
    exact if_pos rfl
  have a3 : cai B3 (csz B + 1) = fun _ => 0 := by rw [← hB3]; exact if_pos rfl
  have hinit : fX10_init (csz B) (newO (hp G K B) 8) = some (0, hp G K B3, 1, 26) := by
    rw [hpB_newO hS]
    unfold fX10_init
    rw [show (26 : Int32).toNatClampNeg = 26 from rfl, hpB_newA' (B := newO B 8) out1]
    have : tg (hp G K (newA (newO B 8) 50 26)) (csz B) 8 = true := by
      refine decide_eq_true ?_
      show (if csz B = csz B + 1 then 50 else if csz B = csz B then 8 else _) = _
      rw [if_neg (by omega), if_pos rfl]
    rw [this, chk_t, hpB_setR (by omega)]
    show some ((0 : Int32), hp G K (setR (newA (newO B 8) 50 26) 700 (csz B) (some (csz B + 1))), 0 + 1, 0 + 26) = _
    rw [hB3]
  have htl : tg (hp G K B3) l 10 = true := decide_eq_true (by rw [hp_ty, (A3 l lz).1, ← hl]; exact ty_50 hS ht)
  obtain ⟨B', e', c, s, hadd, P1, P2, P3, P4, P5, P6, P7, P8, P9, P10⟩ := hp_add (K := K) (B := B3) (G := G) (l := l) (e := e) (n := n) (x := csz B) (by rw [gl]; exact Nat.le_refl 50) (by rw [z3]; exact out2) (by rw [(A3 l lz).1, ← hl]; exact ty_50 hS ht)
    (by rw [(A3 l lz).2.2.2.1, ← hl, hS.2.1.1 901 50 60 (by decide) t 0 o50, he]) (by rw [hp_chr, gl, if_neg (by simp), if_neg (by show ¬ dynI 901 50 ≠ 0; decide), (A3 l lz).2.2.2.1, ← hl, hS.2.1.1 901 50 60 (by decide) t 0 o50, he])
    (by rw [(A3 e ez).1, ← he]; exact ty_60 hS ht) (by rw [(A3 l lz).2.2.1]; exact L1) (by rw [(A3 e ez).2.1]; exact L2) (by rw [(A3 e ez).2.1]; exact L3) (by rw [(A3 e ez).2.1]; omega) (by omega) (by omega) lne (by omega) (by omega) (by rw [t3]; rfl)
    (by
      intro k hk
      have := ok_5 (G := G) ht (k := k) (by omega)
      refine ⟨gad G 5 t k, by rw [(A3 e ez).2.2.2.2.2]; exact L5 k hk, by have := hS.lt this; omega, ?_⟩
      rw [(A3 _ (hS.lt this)).1, ty_5 hS ht (by omega)]
      rfl)
  -- the new roles
  generalize hG : mkG (fun kd t' k' => if kd = 5 ∧ t' = t ∧ k' = n then csz B else if kd = 41 ∧ t' = t ∧ k' = n then csz B + 1 else if kd = 60 ∧ t' = t ∧ k' = 0 then e' else gad G kd t' k')
    (fun x => if x = csz B then (5, t, n) else if x = csz B + 1 then (41, t, n) else if e' ≠ e ∧ x = e then (99, 0, 0) else if e' ≠ e ∧ x = e' then (60, t, 0) else gro G x) (gnt G) (u1 (gnf G) t (n + 1)) (gnr G) = G'
  have ad : ∀ kd t' k', gad G' kd t' k' = if kd = 5 ∧ t' = t ∧ k' = n then csz B else if kd = 41 ∧ t' = t ∧ k' = n then csz B + 1 else if kd = 60 ∧ t' = t ∧ k' = 0 then e' else gad G kd t' k' := by intros; rw [← hG]; rfl
  have ro : ∀ x, gro G' x = if x = csz B then (5, t, n) else if x = csz B + 1 then (41, t, n) else if e' ≠ e ∧ x = e then (99, 0, 0) else if e' ≠ e ∧ x = e' then (60, t, 0) else gro G x := by intros; rw [← hG]; rfl
  have nt' : gnt G' = gnt G := by rw [← hG]; rfl
  have nr' : gnr G' = gnr G := by rw [← hG]; rfl
  have nf' : gnf G' = u1 (gnf G) t (n + 1) := by rw [← hG]; rfl
  have hcase : (e' = e ∧ csz B' = csz B + 2 ∧ cln B' e' = cln B e ∧ c = 0 ∧ s = 0) ∨ (e' = csz B + 2 ∧ csz B' = csz B + 3 ∧ n = cln B e ∧ cln B' e' = n + n / 2 ∧ c = 1 ∧ s = n + n / 2) := by
    rw [z3, (A3 e ez).2.1] at P8
    rcases P8 with q | q
    · exact Or.inl q
    · exact Or.inr ⟨q.1, by omega, q.2.2⟩
  have AB : ∀ y, y < csz B → y ≠ l → y ≠ e → Agr y B B' := fun y hy h1 h2 => (A3 y hy).trans (P9 y (by omega) h1 h2)
  have AX : Agr (csz B) B3 B' := P9 _ (by omega) (by omega) (by omega)
  have AY : Agr (csz B + 1) B3 B' := P9 _ (by omega) (by omega) (by omega)
  have okN : ∀ kd t' k', okR G' kd t' k' ↔ okR G kd t' k' ∨ ((kd = 5 ∨ kd = 41) ∧ t' = t ∧ k' = n) := by
    intro kd t' k'
    unfold okR
    rw [nt', nf', nr']
    by_cases c1 : kd = 4 ∨ kd = 40 ∨ kd = 50 ∨ kd = 60
    · rw [if_pos c1, if_pos c1]
      constructor
      · exact Or.inl
      · rintro (q | q)
        · exact q
        · omega
    · rw [if_neg c1, if_neg c1]
      by_cases c2 : kd = 5 ∨ kd = 41
      · rw [if_pos c2, if_pos c2]
        by_cases c3 : t' = t
        · subst c3
          rw [u1_s, hn]
          constructor
          · rintro ⟨q1, q2⟩
            by_cases c4 : k' = n
            · exact Or.inr ⟨c2, rfl, c4⟩
            · exact Or.inl ⟨q1, by omega⟩
          · rintro (q | q)
            · exact ⟨q.1, by omega⟩
            · exact ⟨ht, by omega⟩
        · rw [u1_n c3]
          constructor
          · exact Or.inl
          · rintro (q | q)
            · exact q
            · exact absurd q.2.1 c3
      · rw [if_neg c2, if_neg c2]
        by_cases c3 : kd = 6
        · rw [if_pos c3]
          constructor
          · exact Or.inl
          · rintro (q | q)
            · exact q
            · omega
        · rw [if_neg c3]
          constructor
          · exact Or.inl
          · rintro (q | q)
            · exact q
            · omega
  have nok : ∀ kd t' k', (kd = 5 ∨ kd = 41) ∧ t' = t ∧ k' = n → ¬ okR G kd t' k' := by
    rintro kd t' k' ⟨q1, q2, q3⟩ q4
    subst q2 q3
    rcases q1 with q1 | q1 <;> subst q1 <;> simp [okR] at q4 <;> omega
  have W : Grw G B G' B' (fun kd t' k' => (kd = 5 ∨ kd = 41) ∧ t' = t ∧ k' = n) 50 t e e' l := by
    refine ⟨okN, ⟨by omega, by omega, o50, hl, o60, he, ?_⟩, fun kd t' k' hr hne => ?_, ?_, fun x hx hxe => ?_, ?_, fun x hx hx2 => ?_, ⟨by omega, P3⟩, by omega, AB, ?_, P1⟩
    · rw [ad, if_neg (by omega), if_neg (by omega), if_pos ⟨rfl, rfl, rfl⟩]
    · have h1 : ¬ ((kd = 5 ∨ kd = 41) ∧ t' = t ∧ k' = n) := fun q => nok _ _ _ q hr
      rw [ad, if_neg (by omega), if_neg (by omega), if_neg (by omega)]
    · rintro kd t' k' ⟨q1, q2, q3⟩
      have hno := nok kd t' k' ⟨q1, q2, q3⟩
      subst q2 q3
      rcases q1 with q1 | q1
      · subst q1
        rw [ad, if_pos ⟨rfl, rfl, rfl⟩]
        refine ⟨hno, Nat.le_refl _, by omega, by rw [ro, if_pos rfl], by rw [AX.1, t3]; rfl, fun q => absurd rfl q⟩
      · subst q1
        rw [ad, if_neg (by omega), if_pos ⟨rfl, rfl, rfl⟩]
        refine ⟨hno, by omega, by omega, by rw [ro, if_neg (by omega), if_pos rfl], by rw [AY.1, t3']; rfl, fun q => by rw [AY.2.1, n3']; rfl⟩
    · rw [ro, if_neg (by omega), if_neg (by omega), if_neg (by omega), if_neg (by omega)]
    · rcases hcase with q | q
      · left
        refine ⟨q.1, ?_⟩
        rw [ro, if_neg (by omega), if_neg (by omega), if_neg (by omega), if_neg (by omega)]
      · right
        refine ⟨by omega, ?_, ?_⟩
        · rw [ro, if_neg (by omega), if_neg (by omega), if_pos ⟨by omega, rfl⟩]; exact (by decide : 90 ≤ 99)
        · rw [ro, if_neg (by omega), if_neg (by omega), if_neg (by omega), if_pos ⟨by omega, rfl⟩]
    · rw [ro] at hx2
      by_cases c1 : x = csz B
      · exact Or.inr ⟨5, t, n, ⟨Or.inl rfl, rfl, rfl⟩, by rw [ro, if_pos c1], by rw [ad, if_pos ⟨rfl, rfl, rfl⟩, c1]⟩
      · by_cases c2 : x = csz B + 1
        · exact Or.inr ⟨41, t, n, ⟨Or.inr rfl, rfl, rfl⟩, by rw [ro, if_neg c1, if_pos c2], by rw [ad, if_neg (by omega), if_pos ⟨rfl, rfl, rfl⟩, c2]⟩
        · rw [if_neg c1, if_neg c2, if_neg (by omega)] at hx2
          by_cases c3 : x = e'
          · exact Or.inl c3
          · rw [if_neg (by omega)] at hx2
            have := hS.out hx
            omega
    · rw [P10]; exact (A3 l lz).1
  have S1 := W.st1 hS.1
  have St' : St G' B' := by
    refine ⟨S1, ⟨fun g kd kd' hs t' k' hr => ?_, W.r406 hS.1 hS.2.1⟩, fun t' ht' => ?_, by rw [nt']; exact hS.2.2.2.1, ?_, by rw [nr']; exact hS.2.2.2.2.2.1, ?_⟩
    · rcases (okN kd t' k').mp hr with q | ⟨q1, q2, q3⟩
      · exact W.rf hS.1 hS.2.1 hs q
      · subst q2 q3
        have : g = 700 ∧ kd = 5 ∧ kd' = 41 := by
          rcases q1 with q1 | q1 <;> subst q1
          · exact (by decide : ∀ q ∈ statL, q.2.1 = 5 → q.1 = 700 ∧ q.2.1 = 5 ∧ q.2.2 = 41) _ hs rfl
          · exact absurd rfl ((by decide : ∀ q ∈ statL, q.2.1 ≠ 41) _ hs)
        obtain ⟨rfl, rfl, rfl⟩ := this
        rw [ad, if_pos ⟨rfl, rfl, rfl⟩, ad, if_neg (by omega), if_pos ⟨rfl, rfl, rfl⟩, AX.2.2.2.1]
        exact r3
    · rw [nt'] at ht'
      by_cases c1 : t' = t
      · subst c1
        rw [nf', u1_s]
        refine ⟨by omega, ?_⟩
        have x1 : gad G' 50 t' 0 = l := by rw [ad, if_neg (by omega), if_neg (by omega), if_neg (by omega)]; exact hl
        have x2 : gad G' 60 t' 0 = e' := by rw [ad, if_neg (by omega), if_neg (by omega), if_pos ⟨rfl, rfl, rfl⟩]
        unfold LsI
        rw [x1, x2]
        refine ⟨P2, P4, P5, ?_, fun k hk => ?_⟩
        · rcases hcase with q | q
          · rw [q.2.2.1]; exact L4
          · rw [q.2.2.2.1]; omega
        · by_cases c2 : k = n
          · rw [c2, P7]
            show some (csz B) = some (gad G' 5 t' n)
            rw [ad, if_pos ⟨rfl, rfl, rfl⟩]
          · rw [P6 k (by omega), (A3 e ez).2.2.2.2.2, L5 k (by omega)]
            show some (gad G 5 t' k) = some (gad G' 5 t' k)
            rw [ad, if_neg (by omega), if_neg (by omega), if_neg (by omega)]
      · rw [nf', u1_n c1]
        obtain ⟨m1, m2⟩ := hS.2.2.1 t' ht'
        refine ⟨m1, ?_⟩
        have m3 := W.ls hS.1 (k2 := 50) (t2 := t') (ok_50 ht') (ok_60 ht') (by omega) (by omega) m2
        refine ⟨m3.1, m3.2.1, m3.2.2.1, m3.2.2.2.1, fun k hk => ?_⟩
        rw [m3.2.2.2.2 k hk]
        show some (gad G 5 t' k) = some (gad G' 5 t' k)
        rw [ad, if_neg (by omega), if_neg (by omega), if_neg (by omega)]
    · rw [nt']
      have m3 := W.ls hS.1 (k2 := 51) (t2 := 0) (ok_1 (by decide)) (ok_1 (by decide)) (by omega) (by omega) hS.2.2.2.2.1
      refine ⟨m3.1, m3.2.1, m3.2.2.1, m3.2.2.2.1, fun k hk => ?_⟩
      rw [m3.2.2.2.2 k hk]
      show some (gad G 4 k 0) = some (gad G' 4 k 0)
      rw [ad, if_neg (by omega), if_neg (by omega), if_neg (by omega)]
    · rw [nr']
      have m3 := W.ls hS.1 (k2 := 52) (t2 := 0) (ok_1 (by decide)) (ok_1 (by decide)) (by omega) (by omega) hS.2.2.2.2.2.2
      refine ⟨m3.1, m3.2.1, m3.2.2.1, m3.2.2.2.1, fun k hk => ?_⟩
      rw [m3.2.2.2.2 k hk]
      show some (gad G 6 0 k) = some (gad G' 6 0 k)
      rw [ad, if_neg (by omega), if_neg (by omega), if_neg (by omega)]
  have hK : hp G K B' = hp G' (kNew K t n) B' := by
    refine W.hpEq hS.1 hF ?_ ?_ ?_ rfl ?_ ?_ ?_ ?_
    · intro g kd t' k' hr _ _
      show _ = if kd = 5 ∧ t' = t ∧ k' = n then 0 else kkh K g kd t' k'
      rw [if_neg (fun q => nok kd t' k' ⟨Or.inl q.1, q.2.1, q.2.2⟩ hr)]
    · intro kd t' k' i hr _ _
      show _ = if kd = 41 ∧ t' = t ∧ k' = n then 0 else kka K kd t' k' i
      rw [if_neg (fun q => nok kd t' k' ⟨Or.inr q.1, q.2.1, q.2.2⟩ hr)]
    · intro t' k' hr
      show _ = if t' = t ∧ k' = n then none else kkf K t' k'
      rw [if_neg (fun q => nok 5 t' k' ⟨Or.inl rfl, q.1, q.2⟩ hr)]
    · rintro g kd t' k' ⟨q1, q2, q3⟩ q4 _
      subst q2 q3
      have : kd = 5 := by omega
      subst this
      rw [ad, if_pos ⟨rfl, rfl, rfl⟩, AX.2.2.1, i3]
      exact (if_pos ⟨rfl, rfl, rfl⟩).symm
    · rintro kd t' k' i ⟨q1, q2, q3⟩ hi
      subst q2 q3
      rcases q1 with q1 | q1
      · subst q1; exact absurd hi (Nat.not_lt_zero _)
      · subst q1
        rw [ad, if_neg (by omega), if_pos ⟨rfl, rfl, rfl⟩, AY.2.2.2.2.1, a3]
        exact (if_pos ⟨rfl, rfl, rfl⟩).symm
    · rintro t' k' ⟨q1, q2, q3⟩
      subst q2 q3
      rw [ad, if_pos ⟨rfl, rfl, rfl⟩, AX.2.2.2.1, f3]
      exact ⟨rfl, if_pos ⟨rfl, rfl⟩⟩
    · rintro kd t' k' ⟨q1, q2, q3⟩; omega
  refine ⟨G', B', 1 + 1 + c, 11 + 26 + s, ?_, St', W.ext hS.1, nt', nr', by rw [nf'], by omega, by omega⟩
  intro α Q y σ c0 s0 hQ
  rw [hinit, cbn_c, rf_500_4 hS ht, drf_s, hl, htl, chk_t, hadd, cbn_c, hK, hQ]
  simp only [Option.map_some, cal_s]
  congr 3
  simp only [Prod.mk.injEq]
  omega
/-- ENTER -/
theorem f_enter (hS : St G B) (ht : t = 100 ∨ t < gnt G) (hd : kkh K 502 4 t 0 = nI d) (h40 : d < 40) (hdn : d ≤ gnf G t) (hF : FkOk G K) (hz : zb fk = true) :
    ∃ G' B' c s, fX5_enter (gad G 4 t 0) nx fk (hp G K B) = some (some (gad G' 5 t d), hp G' (ksI (kBeg K t d nx fk) 502 4 t 0 (nI (d + 1))) B', c, s) ∧
      St G' B' ∧ Ext G B G' B' ∧ gnt G' = gnt G ∧ gnr G' = gnr G ∧ (∀ t', gnf G t' ≤ gnf G' t') ∧ (∀ t', t' ≠ t → gnf G' t' = gnf G t') ∧ d < gnf G' t ∧ c ≤ 3 * (gnf G' t - gnf G t) ∧ s ≤ 101 * (gnf G' t - gnf G t) ∧ (gnf G' t = gnf G t ∨ gnf G' t = d + 1) := by
  have n40 := (hS.2.2.1 t ht).1
  have e0 : fJ2_size (gad G 50 t 0) (hp G K B) = some (nI (gnf G t), hp G K B, 0, 0) := by
    rw [J_size (σ := hp G K B) (ty_50 (B := B) hS ht), hi_50 hS ht, (hS.2.2.1 t ht).2.1]
  by_cases c : d = gnf G t
  · obtain ⟨G', B', c1, s1, h1, h2, h3, h4, h5, h6, h7, h8⟩ := f_newFrame (K := K) hS ht (by omega) hF
    rw [← c] at h1 h6
    have ht' : t = 100 ∨ t < gnt G' := by rw [h4]; exact ht
    have hk' : d < gnf G' t := by rw [h6, u1_s]; omega
    have hd' : kkh (kNew K t d) 502 4 t 0 = nI d := by
      show (if 4 = 5 ∧ t = t ∧ 0 = d then 0 else kkh K 502 4 t 0) = _
      rw [if_neg (by omega)]; exact hd
    have e1 := f_enter29 (nx := nx) (fk := fk) h2 ht' hd' hk' hz
    have e4 : gad G' 4 t 0 = gad G 4 t 0 := (h3.1 4 t 0 (ok_4 ht) (by omega)).2
    rw [e4] at e1
    have e2 := h1 _ (fun s => fX5_enter_at29 (gad G 4 t 0) nx fk s) _ _ _ _ e1
    have e5 : hp G' (ksI (kBeg (kNew K t d) t d nx fk) 502 4 t 0 (nI (d + 1))) B' = hp G' (ksI (kBeg K t d nx fk) 502 4 t 0 (nI (d + 1))) B' := by
      refine hp_ext ?_ ?_ ?_ (fun _ => rfl) h2
      · intro g kd t' k' _ _ hg
        rw [kh_I, kh_I, kh_B, kh_B]
        by_cases q : kd = 5 ∧ t' = t ∧ k' = d
        · rw [if_pos q, if_pos q]
          rw [q.1] at hg ⊢
          have hg' : 701 ≤ g ∧ g ≤ 709 := of_decide_eq_true hg
          rw [if_neg (show ¬ (g = 502 ∧ 5 = 4 ∧ t' = t ∧ k' = 0) by omega), if_neg (show ¬ (g = 502 ∧ 5 = 4 ∧ t' = t ∧ k' = 0) by omega)]
          by_cases g1 : g = 702
          · rw [if_pos g1, if_pos g1]
          · rw [if_neg g1, if_neg g1]
            by_cases g2 : g = 701
            · rw [if_pos g2, if_pos g2]
            · rw [if_neg g2, if_neg g2]
              by_cases g3 : g = 704 ∨ g = 705
              · rw [if_pos g3, if_pos g3]
              · rw [if_neg g3, if_neg g3, if_pos (by omega), if_pos (by omega)]
        · rw [if_neg q, if_neg q]
          show _ = _
          have : kkh (kNew K t d) g kd t' k' = kkh K g kd t' k' := if_neg q
          rw [this]
      · intro kd t' k' i _ _ hi
        rw [ka_I, ka_I, ka_B, ka_B]
        by_cases q : kd = 41 ∧ t' = t ∧ k' = d
        · rw [q.1] at hi
          have hi' : i < 26 := hi
          rw [if_pos ⟨q.1, q.2.1, q.2.2, hi'⟩, if_pos ⟨q.1, q.2.1, q.2.2, hi'⟩]
        · rw [if_neg (fun z => q ⟨z.1, z.2.1, z.2.2.1⟩), if_neg (fun z => q ⟨z.1, z.2.1, z.2.2.1⟩)]
          exact if_neg q
      · intro t' k' _
        rw [kf_I, kf_I, kf_B, kf_B]
        by_cases q : t' = t ∧ k' = d
        · rw [if_pos q, if_pos q]
        · rw [if_neg q, if_neg q]; exact if_neg q
    refine ⟨G', B', 0 + c1, 0 + s1, ?_, h2, h3, h4, h5, fun t' => ?_, fun t' q => by rw [h6, u1_n q], hk', by rw [h6, u1_s]; omega, by rw [h6, u1_s]; omega, Or.inr (by rw [h6, u1_s])⟩
    · unfold fX5_enter
      rw [tg_4 hS ht, chk_t, rf_500_4 hS ht, drf_s, tg_50 hS ht, chk_t, e0, cbn_0, hi_502 hS ht, hd, c, if_pos rfl, tg_4 hS ht, chk_t, hp_sz, ← c]
      rw [e5] at e2
      exact e2
    · rw [h6]
      by_cases q : t' = t
      · rw [q, u1_s]; omega
      · rw [u1_n q]; exact Nat.le_refl _
  · refine ⟨G, B, 0, 0, ?_, hS, Ext.refl G B, rfl, rfl, fun _ => Nat.le_refl _, fun _ _ => rfl, by omega, by omega, by omega, Or.inl rfl⟩
    unfold fX5_enter
    rw [tg_4 hS ht, chk_t, rf_500_4 hS ht, drf_s, tg_50 hS ht, chk_t, e0, cbn_0, hi_502 hS ht, hd, if_neg (by rw [nI_eq (by omega) (by omega)]; exact c)]
    exact f_enter29 hS ht hd (by omega) hz
end EN
