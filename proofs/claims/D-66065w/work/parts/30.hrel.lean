set_option maxRecDepth 100000
/-! THE CLASS's HEAP BY ROLES (kind, t, k). Kinds: 0 desk, 1 compiler, 2 serial, 3 loose, 4 fiber t (100: the serial one), 5 frame k of fiber t, 6 race k; arrays 10 tape, 11 inputs, 12 given,
20 cells .. 28 told (serial), 30 cells .. 35 next (loose), 40 pile of fiber t, 41 variables of frame (t, k); lists 50 frames of t, 51 threads, 52 races, 53 uses; their arrays 60 .. 63 -/
abbrev AD : Type := Nat → Nat → Nat → Nat
/-- addresses, roles of addresses, fibers, frames of a fiber, races -/
def GA : Type := AD × (Nat → Nat × Nat × Nat) × Nat × (Nat → Nat) × Nat
def mkG (ad : AD) (ro : Nat → Nat × Nat × Nat) (nt : Nat) (nf : Nat → Nat) (nr : Nat) : GA := (ad, ro, nt, nf, nr)
def gad (G : GA) : AD := G.1
def gro (G : GA) : Nat → Nat × Nat × Nat := G.2.1
def gnt (G : GA) : Nat := G.2.2.1
def gnf (G : GA) : Nat → Nat := G.2.2.2.1
def gnr (G : GA) : Nat := G.2.2.2.2
def singles : List Nat := [0, 1, 2, 3, 10, 11, 12, 20, 21, 22, 23, 24, 25, 26, 27, 28, 30, 31, 32, 33, 34, 35, 51, 52, 53, 61, 62, 63]
def okR (G : GA) (kd t k : Nat) : Prop :=
  if kd = 4 ∨ kd = 40 ∨ kd = 50 ∨ kd = 60 then (t = 100 ∨ t < gnt G) ∧ k = 0
  else if kd = 5 ∨ kd = 41 then (t = 100 ∨ t < gnt G) ∧ k < gnf G t
  else if kd = 6 then t = 0 ∧ k < gnr G
  else t = 0 ∧ k = 0 ∧ kd ∈ singles
def tagk (kd : Nat) : Nat :=
  if kd = 0 then 1 else if kd = 1 then 2 else if kd = 2 then 5 else if kd = 3 then 7 else if kd = 4 then 6 else if kd = 5 then 8 else if kd = 6 then 9
  else if kd = 10 then 51 else if kd = 25 ∨ kd = 28 then 52 else if kd < 50 then 50 else if kd < 60 then 10 else 53
def lenk (kd : Nat) : Nat :=
  if kd = 10 ∨ kd = 12 then 400 else if kd = 11 ∨ kd = 20 ∨ kd = 26 ∨ kd = 27 ∨ kd = 28 ∨ kd = 30 then 32 else if kd = 21 ∨ kd = 34 ∨ kd = 35 then 300
  else if kd = 22 ∨ kd = 23 ∨ kd = 24 ∨ kd = 25 then 1500 else if kd = 31 ∨ kd = 32 ∨ kd = 33 then 201 else if kd = 40 then 64 else if kd = 41 then 26 else 0
/-- references that stand fast: field, kind, kind that it leads to -/
def statL : List (Nat × Nat × Nat) := [(0, 0, 10), (2, 0, 1), (3, 0, 11), (5, 0, 2), (6, 0, 3), (105, 1, 53), (106, 1, 12), (1001, 2, 20), (407, 2, 21), (411, 2, 22), (412, 2, 23), (416, 2, 24), (417, 2, 25), (419, 2, 26), (420, 2, 27), (421, 2, 28), (422, 2, 52),
  (1001, 3, 30), (606, 3, 51), (607, 3, 31), (608, 3, 32), (609, 3, 33), (610, 3, 34), (611, 3, 35), (500, 4, 50), (501, 4, 40), (700, 5, 41), (901, 50, 60), (901, 51, 61), (901, 52, 62), (901, 53, 63)]
/-- contents: ints of objects, arrays, forkers of frames, other references (1: the desk's program, 2: the compiler's, 3, 4: the machines', 5: the compiler's text) -/
def KS : Type := (Nat → Nat → Nat → Nat → Int32) × (Nat → Nat → Nat → Nat → Int32) × (Nat → Nat → Option (Nat × Nat)) × (Nat → Option Nat)
def mkK (kh ka : Nat → Nat → Nat → Nat → Int32) (kf : Nat → Nat → Option (Nat × Nat)) (kp : Nat → Option Nat) : KS := (kh, ka, kf, kp)
def kkh (K : KS) : Nat → Nat → Nat → Nat → Int32 := K.1
def kka (K : KS) : Nat → Nat → Nat → Nat → Int32 := K.2.1
def kkf (K : KS) : Nat → Nat → Option (Nat × Nat) := K.2.2.1
def kkp (K : KS) : Nat → Option Nat := K.2.2.2
def u4 (f : Nat → Nat → Nat → Nat → Int32) (a b c d : Nat) (v : Int32) : Nat → Nat → Nat → Nat → Int32 := fun a' b' c' d' => if a' = a ∧ b' = b ∧ c' = c ∧ d' = d then v else f a' b' c' d'
def ksI (K : KS) (g kd t k : Nat) (v : Int32) : KS := mkK (u4 (kkh K) g kd t k v) (kka K) (kkf K) (kkp K)
def ksA (K : KS) (kd t k i : Nat) (v : Int32) : KS := mkK (kkh K) (u4 (kka K) kd t k i v) (kkf K) (kkp K)
def ksF (K : KS) (t k : Nat) (v : Option (Nat × Nat)) : KS := mkK (kkh K) (kka K) (u2 (kkf K) t k v) (kkp K)
def ksP (K : KS) (m : Nat) (v : Option Nat) : KS := mkK (kkh K) (kka K) (kkf K) (u1 (kkp K) m v)
/-- references that change: their place among the contents -/
def dynI (g kd : Nat) : Nat := if g = 4 ∧ kd = 0 then 1 else if g = 104 ∧ kd = 1 then 2 else if g = 1000 ∧ kd = 2 then 3 else if g = 1000 ∧ kd = 3 then 4 else if g = 100 ∧ kd = 1 then 5 else 0
/-- the fields of a kind that count -/
def relG (g kd : Nat) : Bool := if kd = 5 then decide (701 ≤ g ∧ g ≤ 709) else if kd = 6 then decide (800 ≤ g ∧ g ≤ 803) else if kd = 4 then decide (502 ≤ g ∧ g ≤ 504) else decide (kd < 10)
/-- THE WORLD: its contents laid over a background that holds its structure -/
def hp (G : GA) (K : KS) (B : CS) : CS :=
  mkC (cty B) (cln B)
    (fun g x => if (gro G x).1 < 50 ∧ relG g (gro G x).1 = true then kkh K g (gro G x).1 (gro G x).2.1 (gro G x).2.2 else chi B g x)
    (fun g x => if g = 710 ∧ (gro G x).1 = 5 then (kkf K (gro G x).2.1 (gro G x).2.2).map (fun p => gad G 5 p.1 p.2) else if dynI g (gro G x).1 ≠ 0 then kkp K (dynI g (gro G x).1) else chr B g x)
    (fun x i => if (gro G x).1 < 50 ∧ i < lenk (gro G x).1 then kka K (gro G x).1 (gro G x).2.1 (gro G x).2.2 i else cai B x i)
    (car B) (csz B)
/-- a list: its size, its elements, its capacity within bounds -/
def LsI (G : GA) (B : CS) (l e t n M : Nat) (el : Nat → Nat) : Prop := chi B 902 (gad G l t 0) = nI n ∧ n ≤ cln B (gad G e t 0) ∧ 2 ≤ cln B (gad G e t 0) ∧ cln B (gad G e t 0) ≤ M ∧ ∀ k, k < n → car B (gad G e t 0) k = some (el k)
def St1 (G : GA) (B : CS) : Prop := (∀ kd t k, okR G kd t k → gad G kd t k < csz B ∧ gro G (gad G kd t k) = (kd, t, k) ∧ cty B (gad G kd t k) = tagk kd ∧ (lenk kd ≠ 0 → cln B (gad G kd t k) = lenk kd)) ∧
  (∀ x, (gro G x).1 < 90 → okR G (gro G x).1 (gro G x).2.1 (gro G x).2.2 ∧ gad G (gro G x).1 (gro G x).2.1 (gro G x).2.2 = x)
def St2 (G : GA) (B : CS) : Prop := (∀ g kd kd', (g, kd, kd') ∈ statL → ∀ t k, okR G kd t k → chr B g (gad G kd t k) = some (gad G kd' t k)) ∧ chr B 406 (gad G 2 0 0) = some (gad G 4 100 0)
def St3 (G : GA) (B : CS) : Prop := (∀ t, t = 100 ∨ t < gnt G → gnf G t ≤ 40 ∧ LsI G B 50 60 t (gnf G t) 64 (fun k => gad G 5 t k)) ∧ gnt G ≤ 100 ∧ LsI G B 51 61 0 (gnt G) 160 (fun t => gad G 4 t 0) ∧ gnr G ≤ 32 ∧ LsI G B 52 62 0 (gnr G) 64 (fun k => gad G 6 0 k)
def St (G : GA) (B : CS) : Prop := St1 G B ∧ St2 G B ∧ St3 G B
section HRL
variable {B : CS} {G : GA} {K : KS} {kd t k g i n : Nat} {v : Int32}
theorem ok_1 (h : kd ∈ singles) : okR G kd 0 0 := by
  unfold okR
  have h1 : ¬ (kd = 4 ∨ kd = 40 ∨ kd = 50 ∨ kd = 60) := by rintro (e | e | e | e) <;> subst e <;> revert h <;> decide
  have h2 : ¬ (kd = 5 ∨ kd = 41) := by rintro (e | e) <;> subst e <;> revert h <;> decide
  have h3 : ¬ kd = 6 := by rintro e; subst e; revert h; decide
  rw [if_neg h1, if_neg h2, if_neg h3]
  exact ⟨rfl, rfl, h⟩
theorem ok_4 (h : t = 100 ∨ t < gnt G) : okR G 4 t 0 := by simp [okR]; exact h
theorem ok_40 (h : t = 100 ∨ t < gnt G) : okR G 40 t 0 := by simp [okR]; exact h
theorem ok_50 (h : t = 100 ∨ t < gnt G) : okR G 50 t 0 := by simp [okR]; exact h
theorem ok_60 (h : t = 100 ∨ t < gnt G) : okR G 60 t 0 := by simp [okR]; exact h
theorem ok_5 (h : t = 100 ∨ t < gnt G) (hk : k < gnf G t) : okR G 5 t k := by simp [okR]; exact ⟨h, hk⟩
theorem ok_41 (h : t = 100 ∨ t < gnt G) (hk : k < gnf G t) : okR G 41 t k := by simp [okR]; exact ⟨h, hk⟩
theorem ok_6 (hk : k < gnr G) : okR G 6 0 k := by simp [okR]; exact hk
theorem St.ro (h : St G B) (hr : okR G kd t k) : gro G (gad G kd t k) = (kd, t, k) := (h.1.1 kd t k hr).2.1
theorem St.lt (h : St G B) (hr : okR G kd t k) : gad G kd t k < csz B := (h.1.1 kd t k hr).1
theorem hp_ty : cty (hp G K B) = cty B := rfl
theorem hp_ln : cln (hp G K B) = cln B := rfl
theorem hp_ar : car (hp G K B) = car B := rfl
theorem hp_sz : csz (hp G K B) = csz B := rfl
theorem hp_chi (g x : Nat) : chi (hp G K B) g x = if (gro G x).1 < 50 ∧ relG g (gro G x).1 = true then kkh K g (gro G x).1 (gro G x).2.1 (gro G x).2.2 else chi B g x := rfl
theorem hp_chr (g x : Nat) : chr (hp G K B) g x = if g = 710 ∧ (gro G x).1 = 5 then (kkf K (gro G x).2.1 (gro G x).2.2).map (fun p => gad G 5 p.1 p.2) else if dynI g (gro G x).1 ≠ 0 then kkp K (dynI g (gro G x).1) else chr B g x := rfl
theorem hp_cai (x i : Nat) : cai (hp G K B) x i = if (gro G x).1 < 50 ∧ i < lenk (gro G x).1 then kka K (gro G x).1 (gro G x).2.1 (gro G x).2.2 i else cai B x i := rfl
theorem hp_tg (h : St G B) (hr : okR G kd t k) (e : tagk kd = n) : tg (hp G K B) (gad G kd t k) n = true := decide_eq_true (((h.1.1 kd t k hr).2.2.1).trans e)
theorem hp_len (h : St G B) (hr : okR G kd t k) (e : lenk kd = n) (hn : n ≠ 0) : cln B (gad G kd t k) = n := ((h.1.1 kd t k hr).2.2.2 (by rw [e]; exact hn)).trans e
theorem hp_hi (h : St G B) (hr : okR G kd t k) (hk : kd < 50) (hg : relG g kd = true) : chi (hp G K B) g (gad G kd t k) = kkh K g kd t k := by
  rw [hp_chi, h.ro hr, if_pos ⟨hk, hg⟩]
theorem hp_ai (h : St G B) (hr : okR G kd t k) (hk : kd < 50) (hi : i < lenk kd) : cai (hp G K B) (gad G kd t k) i = kka K kd t k i := by
  show (if (gro G (gad G kd t k)).1 < 50 ∧ i < lenk (gro G (gad G kd t k)).1 then kka K (gro G (gad G kd t k)).1 (gro G (gad G kd t k)).2.1 (gro G (gad G kd t k)).2.2 i else _) = _
  rw [h.ro hr, if_pos ⟨hk, hi⟩]
theorem hp_rf (h : St G B) {kd' : Nat} (hs : (g, kd, kd') ∈ statL) (hr : okR G kd t k) : chr (hp G K B) g (gad G kd t k) = some (gad G kd' t k) := by
  rw [hp_chr, h.ro hr, if_neg, if_neg]
  · exact h.2.1.1 g kd kd' hs t k hr
  · exact (by decide : ∀ q ∈ statL, ¬ dynI q.1 q.2.1 ≠ 0) _ hs
  · exact (by decide : ∀ q ∈ statL, ¬ (q.1 = 710 ∧ q.2.1 = 5)) _ hs
theorem hp_406 (h : St G B) : chr (hp G K B) 406 (gad G 2 0 0) = some (gad G 4 100 0) := by
  rw [hp_chr, h.ro (ok_1 (by decide)), if_neg (by decide), if_neg (by decide)]
  exact h.2.1.2
theorem hp_dyn (h : St G B) (hr : okR G kd t k) (e : dynI g kd = n) (hn : n ≠ 0) (h7 : g ≠ 710) : chr (hp G K B) g (gad G kd t k) = kkp K n := by
  rw [hp_chr, h.ro hr, if_neg (fun q => h7 q.1), if_pos (by rw [e]; exact hn), e]
theorem hp_fk (h : St G B) (hr : okR G 5 t k) : chr (hp G K B) 710 (gad G 5 t k) = (kkf K t k).map (fun p => gad G 5 p.1 p.2) := by
  show (if 710 = 710 ∧ (gro G (gad G 5 t k)).1 = 5 then (kkf K (gro G (gad G 5 t k)).2.1 (gro G (gad G 5 t k)).2.2).map (fun p => gad G 5 p.1 p.2) else _) = _
  rw [h.ro hr, if_pos ⟨rfl, rfl⟩]
/-- where a role's address is not -/
theorem St.ne (h : St G B) (hr : okR G kd t k) (hk : kd < 90) {x : Nat} : x = gad G kd t k ↔ gro G x = (kd, t, k) := by
  constructor
  · intro e; rw [e]; exact h.ro hr
  · intro e
    have := (h.1.2 x (by rw [e]; exact hk)).2
    rw [e] at this
    exact this.symm
theorem hp_ext {K K' : KS} (h1 : ∀ g kd t k, okR G kd t k → kd < 50 → relG g kd = true → kkh K g kd t k = kkh K' g kd t k) (h2 : ∀ kd t k i, okR G kd t k → kd < 50 → i < lenk kd → kka K kd t k i = kka K' kd t k i) (h3 : ∀ t k, okR G 5 t k → kkf K t k = kkf K' t k) (h4 : ∀ m, kkp K m = kkp K' m) (h : St G B) : hp G K B = hp G K' B := by
  unfold hp
  congr 1
  · funext g x
    by_cases c : (gro G x).1 < 50 ∧ relG g (gro G x).1 = true
    · rw [if_pos c, if_pos c]; exact h1 _ _ _ _ (h.1.2 x (by omega)).1 c.1 c.2
    · rw [if_neg c, if_neg c]
  · funext g x
    by_cases c : g = 710 ∧ (gro G x).1 = 5
    · rw [if_pos c, if_pos c]
      have := (h.1.2 x (by omega)).1
      rw [c.2] at this
      rw [h3 _ _ this]
    · rw [if_neg c, if_neg c, h4]
  · funext x i
    by_cases c : (gro G x).1 < 50 ∧ i < lenk (gro G x).1
    · rw [if_pos c, if_pos c]; exact h2 _ _ _ _ (h.1.2 x (by omega)).1 c.1 c.2
    · rw [if_neg c, if_neg c]
theorem ro_eq {a : Nat × Nat × Nat} {x y z : Nat} : a = (x, y, z) ↔ a.1 = x ∧ a.2.1 = y ∧ a.2.2 = z := by
  obtain ⟨a1, a2, a3⟩ := a
  simp
/-- an int field is written -/
theorem hp_wI (h : St G B) (hr : okR G kd t k) (hk : kd < 50) (hg : relG g kd = true) : setI (hp G K B) g (gad G kd t k) v = hp G (ksI K g kd t k v) B := by
  have e : u2 (chi (hp G K B)) g (gad G kd t k) v = chi (hp G (ksI K g kd t k v) B) := by
    funext g' x
    show (if g' = g ∧ x = gad G kd t k then v else if (gro G x).1 < 50 ∧ relG g' (gro G x).1 = true then kkh K g' (gro G x).1 (gro G x).2.1 (gro G x).2.2 else chi B g' x) = (if (gro G x).1 < 50 ∧ relG g' (gro G x).1 = true then (if g' = g ∧ (gro G x).1 = kd ∧ (gro G x).2.1 = t ∧ (gro G x).2.2 = k then v else kkh K g' (gro G x).1 (gro G x).2.1 (gro G x).2.2) else chi B g' x)
    simp only [h.ne hr (by omega), ro_eq]
    by_cases c : (gro G x).1 < 50 ∧ relG g' (gro G x).1 = true
    · rw [if_pos c, if_pos c]
    · rw [if_neg c, if_neg c, if_neg]
      rintro ⟨q1, q2, -⟩
      exact c ⟨by omega, by rw [q1, q2]; exact hg⟩
  show mkC _ _ (u2 (chi (hp G K B)) g (gad G kd t k) v) _ _ _ _ = _
  rw [e]
  rfl
/-- an array's element is written -/
theorem hp_wA (h : St G B) (hr : okR G kd t k) (hk : kd < 50) (hi : i < lenk kd) : putI (hp G K B) (gad G kd t k) i v = hp G (ksA K kd t k i v) B := by
  have e : u2 (cai (hp G K B)) (gad G kd t k) i v = cai (hp G (ksA K kd t k i v) B) := by
    funext x i'
    show (if x = gad G kd t k ∧ i' = i then v else if (gro G x).1 < 50 ∧ i' < lenk (gro G x).1 then kka K (gro G x).1 (gro G x).2.1 (gro G x).2.2 i' else cai B x i') = (if (gro G x).1 < 50 ∧ i' < lenk (gro G x).1 then (if (gro G x).1 = kd ∧ (gro G x).2.1 = t ∧ (gro G x).2.2 = k ∧ i' = i then v else kka K (gro G x).1 (gro G x).2.1 (gro G x).2.2 i') else cai B x i')
    simp only [h.ne hr (by omega), ro_eq]
    by_cases c : (gro G x).1 < 50 ∧ i' < lenk (gro G x).1
    · rw [if_pos c, if_pos c]
      by_cases c2 : (gro G x).1 = kd ∧ (gro G x).2.1 = t ∧ (gro G x).2.2 = k ∧ i' = i
      · rw [if_pos c2, if_pos ⟨⟨c2.1, c2.2.1, c2.2.2.1⟩, c2.2.2.2⟩]
      · rw [if_neg c2, if_neg (fun q => c2 ⟨q.1.1, q.1.2.1, q.1.2.2, q.2⟩)]
    · rw [if_neg c, if_neg c, if_neg]
      rintro ⟨⟨q1, -, -⟩, q2⟩
      exact c ⟨by omega, by rw [q1, q2]; exact hi⟩
  show mkC _ _ _ _ (u2 (cai (hp G K B)) (gad G kd t k) i v) _ _ = _
  rw [e]
  rfl
/-- a reference that changes is written -/
theorem hp_wP (h : St G B) (hr : okR G kd t k) (hk : kd < 50) (e : dynI g kd = n) (hn : n ≠ 0) (h7 : g ≠ 710) {p : Option Nat} : setR (hp G K B) g (gad G kd t k) p = hp G (ksP K n p) B := by
  have e1 : u2 (chr (hp G K B)) g (gad G kd t k) p = chr (hp G (ksP K n p) B) := by
    funext g' x
    show (if g' = g ∧ x = gad G kd t k then p else if g' = 710 ∧ (gro G x).1 = 5 then _ else if dynI g' (gro G x).1 ≠ 0 then kkp K (dynI g' (gro G x).1) else chr B g' x) = (if g' = 710 ∧ (gro G x).1 = 5 then _ else if dynI g' (gro G x).1 ≠ 0 then (if dynI g' (gro G x).1 = n then p else kkp K (dynI g' (gro G x).1)) else chr B g' x)
    simp only [h.ne hr (by omega), ro_eq]
    have hd : ∀ g1 k1 g2 k2, dynI g1 k1 = dynI g2 k2 → dynI g1 k1 ≠ 0 → g1 = g2 ∧ k1 = k2 := by
      intro g1 k1 g2 k2
      unfold dynI
      repeat' split
      all_goals omega
    have ht : t = 0 ∧ k = 0 := by
      have hk2 : kd = 0 ∨ kd = 1 ∨ kd = 2 ∨ kd = 3 := by
        revert e hn
        unfold dynI
        repeat' split
        all_goals omega
      rcases hk2 with q | q | q | q <;> subst q <;> simp [okR] at hr <;> exact ⟨hr.1, hr.2.1⟩
    by_cases c : g' = g ∧ (gro G x).1 = kd ∧ (gro G x).2.1 = t ∧ (gro G x).2.2 = k
    · rw [if_pos c, if_neg (fun q => h7 (c.1.symm.trans q.1)), c.1, c.2.1, e, if_pos hn, if_pos rfl]
    · rw [if_neg c]
      by_cases c1 : g' = 710 ∧ (gro G x).1 = 5
      · rw [if_pos c1, if_pos c1]; rfl
      · rw [if_neg c1, if_neg c1]
        by_cases c2 : dynI g' (gro G x).1 ≠ 0
        · rw [if_pos c2, if_pos c2, if_neg]
          intro q
          obtain ⟨q1, q2⟩ := hd _ _ g kd (q.trans e.symm) c2
          have q3 := (h.1.2 x (by omega)).1
          have hk2 : kd = 0 ∨ kd = 1 ∨ kd = 2 ∨ kd = 3 := by
            revert e hn
            unfold dynI
            repeat' split
            all_goals omega
          rw [q2] at q3
          have q4 : (gro G x).2.1 = 0 ∧ (gro G x).2.2 = 0 := by rcases hk2 with q | q | q | q <;> subst q <;> simp [okR] at q3 <;> exact ⟨q3.1, q3.2.1⟩
          exact c ⟨q1, q2, by rw [q4.1, ht.1], by rw [q4.2, ht.2]⟩
        · rw [if_neg c2, if_neg c2]
  show mkC _ _ _ (u2 (chr (hp G K B)) g (gad G kd t k) p) _ _ _ = _
  rw [e1]
  rfl
/-- a forker is written -/
theorem hp_wF (h : St G B) (hr : okR G 5 t k) {p : Option (Nat × Nat)} : setR (hp G K B) 710 (gad G 5 t k) (p.map fun q => gad G 5 q.1 q.2) = hp G (ksF K t k p) B := by
  have e1 : u2 (chr (hp G K B)) 710 (gad G 5 t k) (p.map fun q => gad G 5 q.1 q.2) = chr (hp G (ksF K t k p) B) := by
    funext g' x
    show (if g' = 710 ∧ x = gad G 5 t k then p.map (fun q => gad G 5 q.1 q.2) else if g' = 710 ∧ (gro G x).1 = 5 then (kkf K (gro G x).2.1 (gro G x).2.2).map (fun p => gad G 5 p.1 p.2) else if dynI g' (gro G x).1 ≠ 0 then kkp K (dynI g' (gro G x).1) else chr B g' x) =
      (if g' = 710 ∧ (gro G x).1 = 5 then (if (gro G x).2.1 = t ∧ (gro G x).2.2 = k then p else kkf K (gro G x).2.1 (gro G x).2.2).map (fun p => gad G 5 p.1 p.2) else if dynI g' (gro G x).1 ≠ 0 then kkp K (dynI g' (gro G x).1) else chr B g' x)
    simp only [h.ne hr (by omega), ro_eq]
    by_cases c : g' = 710 ∧ (gro G x).1 = 5
    · rw [if_pos c]
      by_cases c2 : (gro G x).2.1 = t ∧ (gro G x).2.2 = k
      · rw [if_pos ⟨c.1, c.2, c2.1, c2.2⟩, if_pos c2, if_pos c]
      · rw [if_neg (fun q => c2 ⟨q.2.2.1, q.2.2.2⟩), if_pos c, if_neg c2]
    · rw [if_neg c, if_neg (fun q => c ⟨q.1, q.2.1⟩), if_neg c]
  show mkC _ _ _ (u2 (chr (hp G K B)) 710 (gad G 5 t k) _) _ _ _ = _
  rw [e1]
  rfl
/-! the background: addresses of no role -/
theorem hpB_hi {x : Nat} (hx : 50 ≤ (gro G x).1) : chi (hp G K B) g x = chi B g x := by rw [hp_chi, if_neg (by omega)]
theorem hpB_rf {x : Nat} (hx : 90 ≤ (gro G x).1) : chr (hp G K B) g x = chr B g x := by
  rw [hp_chr, if_neg (by omega), if_neg]
  unfold dynI
  repeat' split
  all_goals omega
theorem hpB_ai {x : Nat} (hx : 50 ≤ (gro G x).1) : cai (hp G K B) x i = cai B x i := by rw [hp_cai, if_neg (by omega)]
theorem St.out (h : St G B) {x : Nat} (hx : csz B ≤ x) : 90 ≤ (gro G x).1 := by
  apply Nat.le_of_not_lt
  intro c
  have h1 := h.1.2 x c
  have h2 := h.lt h1.1
  rw [h1.2] at h2
  omega
theorem hpB_setI {x : Nat} (hx : 50 ≤ (gro G x).1) : setI (hp G K B) g x v = hp G K (setI B g x v) := by
  have e : u2 (chi (hp G K B)) g x v = chi (hp G K (setI B g x v)) := by
    funext g' y
    show (if g' = g ∧ y = x then v else if (gro G y).1 < 50 ∧ relG g' (gro G y).1 = true then kkh K g' (gro G y).1 (gro G y).2.1 (gro G y).2.2 else chi B g' y) = (if (gro G y).1 < 50 ∧ relG g' (gro G y).1 = true then kkh K g' (gro G y).1 (gro G y).2.1 (gro G y).2.2 else if g' = g ∧ y = x then v else chi B g' y)
    by_cases c : y = x
    · subst c
      rw [if_neg (show ¬ ((gro G y).1 < 50 ∧ relG g' (gro G y).1 = true) by omega), if_neg (show ¬ ((gro G y).1 < 50 ∧ relG g' (gro G y).1 = true) by omega)]
    · simp only [c, and_false, if_false]
  show mkC _ _ (u2 (chi (hp G K B)) g x v) _ _ _ _ = _
  rw [e]
  rfl
theorem hpB_setR {x : Nat} (hx : 50 ≤ (gro G x).1) {p : Option Nat} : setR (hp G K B) g x p = hp G K (setR B g x p) := by
  have hd : ∀ g', ¬ (dynI g' (gro G x).1 ≠ 0) := by
    intro g'
    unfold dynI
    repeat' split
    all_goals omega
  have e : u2 (chr (hp G K B)) g x p = chr (hp G K (setR B g x p)) := by
    funext g' y
    show (if g' = g ∧ y = x then p else if g' = 710 ∧ (gro G y).1 = 5 then _ else if dynI g' (gro G y).1 ≠ 0 then kkp K (dynI g' (gro G y).1) else chr B g' y) = (if g' = 710 ∧ (gro G y).1 = 5 then _ else if dynI g' (gro G y).1 ≠ 0 then kkp K (dynI g' (gro G y).1) else if g' = g ∧ y = x then p else chr B g' y)
    by_cases c : y = x
    · subst c
      rw [if_neg (show ¬ (g' = 710 ∧ (gro G y).1 = 5) by omega), if_neg (show ¬ (g' = 710 ∧ (gro G y).1 = 5) by omega), if_neg (hd g'), if_neg (hd g')]
    · simp only [c, and_false, if_false]
  show mkC _ _ _ (u2 (chr (hp G K B)) g x p) _ _ _ = _
  rw [e]
  rfl
theorem hpB_putR {x j : Nat} {p : Option Nat} : putR (hp G K B) x j p = hp G K (putR B x j p) := rfl
theorem hpB_newO (h : St G B) {n : Nat} : newO (hp G K B) n = hp G K (newO B n) := by
  have hx := h.out (Nat.le_refl _)
  have hd : ∀ g', ¬ (dynI g' (gro G (csz B)).1 ≠ 0) := by
    intro g'
    unfold dynI
    repeat' split
    all_goals omega
  have e1 : (fun g a => if a = csz B then 0 else chi (hp G K B) g a) = chi (hp G K (newO B n)) := by
    funext g' y
    show (if y = csz B then 0 else if (gro G y).1 < 50 ∧ relG g' (gro G y).1 = true then kkh K g' (gro G y).1 (gro G y).2.1 (gro G y).2.2 else chi B g' y) = (if (gro G y).1 < 50 ∧ relG g' (gro G y).1 = true then kkh K g' (gro G y).1 (gro G y).2.1 (gro G y).2.2 else if y = csz B then 0 else chi B g' y)
    by_cases c : y = csz B
    · subst c
      rw [if_pos rfl, if_neg (by omega), if_pos rfl]
    · rw [if_neg c, if_neg c]
  have e2 : (fun g a => if a = csz B then none else chr (hp G K B) g a) = chr (hp G K (newO B n)) := by
    funext g' y
    show (if y = csz B then none else if g' = 710 ∧ (gro G y).1 = 5 then _ else if dynI g' (gro G y).1 ≠ 0 then kkp K (dynI g' (gro G y).1) else chr B g' y) = (if g' = 710 ∧ (gro G y).1 = 5 then _ else if dynI g' (gro G y).1 ≠ 0 then kkp K (dynI g' (gro G y).1) else if y = csz B then none else chr B g' y)
    by_cases c : y = csz B
    · subst c
      rw [if_pos rfl, if_neg (by omega), if_neg (hd g'), if_pos rfl]
    · rw [if_neg c, if_neg c]
  show mkC (u1 (cty B) (csz B) n) (cln B) (fun g a => if a = csz B then 0 else chi (hp G K B) g a) (fun g a => if a = csz B then none else chr (hp G K B) g a) _ _ _ = _
  rw [e1, e2]
  rfl
theorem hpB_newA' {n m : Nat} (hx : 90 ≤ (gro G (csz B)).1) : newA (hp G K B) n m = hp G K (newA B n m) := by
  have e1 : u1 (cai (hp G K B)) (csz B) (fun _ => 0) = cai (hp G K (newA B n m)) := by
    funext y i
    show (if y = csz B then (fun _ => 0) else cai (hp G K B) y) i = (if (gro G y).1 < 50 ∧ i < lenk (gro G y).1 then kka K (gro G y).1 (gro G y).2.1 (gro G y).2.2 i else (if y = csz B then (fun _ => 0) else cai B y) i)
    by_cases c : y = csz B
    · subst c
      rw [if_pos rfl, if_neg (by omega), if_pos rfl]
    · rw [if_neg c, if_neg c, hp_cai]
  show mkC _ _ _ _ (u1 (cai (hp G K B)) (csz B) (fun _ => 0)) _ _ = _
  rw [e1]
  rfl
theorem hpB_newA (h : St G B) {n m : Nat} : newA (hp G K B) n m = hp G K (newA B n m) := hpB_newA' (h.out (Nat.le_refl _))
theorem hpB_cpyR {a0 a sp dp n : Nat} : cpyR (hp G K B) a0 a sp dp n = hp G K (cpyR B a0 a sp dp n) := rfl
end HRL
