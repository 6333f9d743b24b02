set_option maxRecDepth 100000
/-! PROGRAMS THAT RUN: heights of the pile by instruction -/
def WfI (P : PD) (ht : Nat → Nat) (i : Nat) : Prop :=
  ((po P i = 0 ∨ po P i = 1) → i + 1 < pn P ∧ ht (i + 1) = ht i + 1 ∧ (po P i = 1 → pv P i < 26)) ∧
  ((2 ≤ po P i ∧ po P i ≤ 6) → i + 1 < pn P ∧ 2 ≤ ht i ∧ ht (i + 1) = ht i - 1) ∧
  ((po P i = 7 ∨ po P i = 8) → i + 1 < pn P ∧ 1 ≤ ht i ∧ ht (i + 1) = ht i) ∧
  ((po P i = 9 ∨ po P i = 11 ∨ po P i = 12) → i + 1 < pn P ∧ 1 ≤ ht i ∧ ht (i + 1) = ht i - 1 ∧ (po P i = 9 → pv P i < 26)) ∧
  (po P i = 10 → i + 1 < pn P ∧ 2 ≤ ht i ∧ ht (i + 1) = ht i - 2) ∧
  ((po P i = 13 ∨ po P i = 14) → i + 1 < pn P ∧ pv P i < pq P ∧ ht i = pm P (pv P i) ∧ ht (i + 1) = 0) ∧
  (po P i = 15 → i + 1 < pn P ∧ ht (i + 1) = ht i) ∧
  (po P i = 16 → i + 1 < pn P ∧ pv P i < pn P ∧ 1 ≤ ht i ∧ ht (i + 1) = ht i - 1 ∧ ht (pv P i) = ht i - 1) ∧
  (po P i = 17 → pv P i < pn P ∧ ht (pv P i) = ht i) ∧
  (po P i = 18 → ht i = 0)
def WfP (P : PD) (ht : Nat → Nat) : Prop :=
  pn P ≤ 500 ∧ 0 < pq P ∧ pq P ≤ 8 ∧ (∀ p, p < pq P → PpO P p ∧ pb P p < pn P ∧ ht (pb P p) = 0) ∧ ∀ i, i < pn P → po P i < 19 ∧ ht i ≤ 64 ∧ pv P i < 100000 ∧ ppl P i < 100000 ∧ WfI P ht i
/-- .. as the reference has it -/
def PmI (P : PD) (a : MA) : Prop :=
  (∀ i, i < pn P → a 12 i = nI (opM (po P i)) ∧ a 13 i = nI (vlM (po P i) (pv P i)) ∧ (po P i = 8 ∨ po P i = 10 → a 14 i = nI (ppl P i))) ∧
  ∀ p, p < pq P → a 15 p = nI (pb P p) ∧ a 16 p = nI (pm P p) ∧ ∀ j, j < pm P p → a 17 (3 * p + j) = nI (pp P p j)
/-- a fiber and a thread: t, with d frames and h on the pile -/
def FbI (G : GA) (P : PD) (ht : Nat → Nat) (K : KS) (a : MA) (t d h : Nat) : Prop :=
  (kkh K 502 4 t 0 = nI d ∧ a 19 t = nI d ∧ d ≤ 40 ∧ d ≤ gnf G t) ∧ (kkh K 503 4 t 0 = nI h ∧ a 24 t = nI h ∧ h ≤ 64) ∧
  (∀ i, i < h → kka K 40 t 0 i = a 23 (64 * t + i)) ∧
  (∀ k, k < d → ∃ pc, pc < pn P ∧ kkh K 702 5 t k = nI pc ∧ a 20 (40 * t + k) = nI pc ∧ ht pc = (if k + 1 = d then h else 0)) ∧
  (∀ k, k < d → ∀ v, v < 26 → kka K 41 t k v = a 22 (26 * (40 * t + k) + v))
def oI (x : Option Nat) : Int32 := match x with
  | none => -1
  | some e => nI e
/-- numbers of the serial run -/
def SnI (K : KS) (f : MF) (n ne : Nat) : Prop := kkh K 413 2 0 0 = nI n ∧ f 1350 = nI n ∧ 0 < n ∧ n ≤ 1500 ∧ kkh K 414 2 0 0 = nI (n - 1) ∧ f 1351 = nI (n - 1) ∧ kkh K 418 2 0 0 = nI ne ∧ ne ≤ n
def SoI (K : KS) (a : MA) (n : Nat) (pos at_ : Nat → Nat) : Prop := OrdI n pos at_ ∧ BhI n at_ (kka K 22 0 0) ∧ ∀ t s, t < n → s < 1504 → (hsb (a 29) (47 * t) s = true ↔ s < t ∧ pos s < pos t)
def SrI (K : KS) (n : Nat) (pos : Nat → Nat) : Prop := ∃ rk, kkh K 415 2 0 0 = nI rk ∧ rk ≤ n ∧ (rk = n → ∀ s, s < n → kka K 23 0 0 s = nI (pos s))
def StI (K : KS) (f : MF) (a : MA) (wk : Nat) : Prop := (∃ tm, kkh K 409 2 0 0 = nI tm ∧ f 1352 = nI tm ∧ tm ≤ wk) ∧ kkh K 1003 2 0 0 = nI wk ∧ a 28 0 = nI wk ∧ kkh K 1002 2 0 0 = a 27 0 ∧ ∀ c, c < 32 → kka K 20 0 0 c = a 26 c
def SpI (K : KS) (f : MF) (a : MA) : Prop := kkh K 410 2 0 0 = f 1353 ∧ ∃ pr, kkh K 408 2 0 0 = nI pr ∧ f 1366 = nI pr ∧ pr ≤ 300 ∧ ∀ i, i < pr → kka K 21 0 0 i = a 40 i
def SlI (K : KS) (f : MF) (d : Nat) (lim : Bool) : Prop := kkh K 1004 2 0 0 = zI lim ∧ f 1349 = zI lim ∧ f 1348 = zI (decide (d = 0)) ∧ (0 < d → f 1353 = 0) ∧ kkh K 1005 2 0 0 = 1
def ScI (G : GA) (K : KS) (f : MF) (a : MA) (td : Nat → Bool) : Prop := f 1364 = nI (gnr G) ∧ gnr G = (List.range 32).countP td ∧ (∀ c, c < 32 → kka K 28 0 0 c = zI (td c) ∧ a 38 c = zI (td c)) ∧ ∀ i, i < gnr G → kkh K 800 6 0 i = a 39 (4 * i) ∧ kkh K 801 6 0 i = a 39 (4 * i + 1) ∧ kkh K 802 6 0 i = a 39 (4 * i + 2) ∧ kkh K 803 6 0 i = a 39 (4 * i + 3) ∧ (kkh K 802 6 0 i = 0 ∨ kkh K 802 6 0 i = 1)
def SwI (K : KS) (a : MA) (n : Nat) (pos el : Nat → Nat) (td : Nat → Bool) : Prop := ∀ c, c < 32 → ∃ rd wt : Option Nat, kka K 27 0 0 c = oI rd ∧ RwI n pos el (fun s => s < 1504 ∧ hsb (a 36) (47 * c) s = true) rd ∧ (∀ s, s < 1504 → hsb (a 36) (47 * c) s = true → s < n) ∧
  kka K 26 0 0 c = oI wt ∧ (∀ s, s < 1504 → hsb (a 37) (47 * c) s = true → s < n) ∧ (td c = false → RwI n pos el (fun s => s < 1504 ∧ hsb (a 37) (47 * c) s = true) wt) ∧ (wt = none ∨ ∃ s, s < n ∧ wt = some (el s))
/-- frames of the serial run -/
def SfI (K : KS) (a : MA) (d wk : Nat) (st : Nat → Nat) (isF : Nat → Bool) (fe fbs : Nat → Option Nat) (fel : Nat → Nat) : Prop := isF 0 = false ∧ ∀ k, k < d →
  kkh K 701 5 100 k = zI (isF k) ∧ a 31 k = zI (isF k) ∧ a 30 k = zI ((fe k).isSome || (decide (k + 1 < d) && isF (k + 1))) ∧ kkh K 705 5 100 k = oI (fe k) ∧ kkh K 704 5 100 k = oI (fbs k) ∧ kkh K 703 5 100 k = nI (fel k) ∧
  (∃ lt, kkh K 708 5 100 k = nI lt ∧ a 32 k = nI lt ∧ lt ≤ wk ∧ (fe k = none → lt = 0)) ∧
  (k + 1 < d → isF (k + 1) = true → kkh K 706 5 100 k = nI (st (k + 1) - 1) ∧ a 34 (k + 1) = nI (st (k + 1) - 1) ∧ ∃ bt, kkh K 707 5 100 k = nI bt ∧ a 35 (k + 1) = nI bt ∧ bt ≤ wk)
def jnB (a : MA) : Nat → Nat → Prop := fun k s => s < 1504 ∧ hsb (a 33) (47 * k) s = true
/-- what lies behind it -/
def SgI (K : KS) (a : MA) (n d ne : Nat) (pos st el W root dp : Nat → Nat) (isF bes : Nat → Bool) (fe fbs : Nat → Option Nat) (fel : Nat → Nat) : Prop :=
  FrI n d pos st isF fe (jnB a) ∧ BagI n d ne pos st isF fe el root bes fel fbs ∧ UfK K ne n W root dp ∧ ∀ e, e < ne → kka K 25 0 0 e = zI (bes e)
/-- all of it but the thread, the cells, the time -/
def SerQ (G : GA) (P : PD) (K : KS) (f : MF) (a : MA) (n d ne wk : Nat) (pos at_ st el W root dp : Nat → Nat) (isF bes td : Nat → Bool) (fe fbs : Nat → Option Nat) (fel : Nat → Nat) (lim : Bool) : Prop :=
  SnI K f n ne ∧ SoI K a n pos at_ ∧ SrI K n pos ∧ SpI K f a ∧ SlI K f d lim ∧ ScI G K f a td ∧ SwI K a n pos el td ∧ SfI K a d wk st isF fe fbs fel ∧ SgI K a n d ne pos st el W root dp isF bes fe fbs fel ∧ PmI P a
/-- what is not of the serial run is the same -/
def OutS (K K' : KS) (f f' : MF) (a a' : MA) : Prop :=
  (∀ g kd t k, ¬ (kd = 2 ∨ kd = 6 ∨ ((kd = 4 ∨ kd = 5) ∧ t = 100)) → kkh K' g kd t k = kkh K g kd t k) ∧ (∀ kd t k i, ¬ ((20 ≤ kd ∧ kd < 30) ∨ ((kd = 40 ∨ kd = 41) ∧ t = 100)) → kka K' kd t k i = kka K kd t k i) ∧ (∀ t k, t ≠ 100 → kkf K' t k = kkf K t k) ∧ kkp K' = kkp K ∧
  (∀ g, ¬ ((1348 ≤ g ∧ g ≤ 1353) ∨ g = 1364 ∨ g = 1366) → f' g = f g) ∧
  ∀ j i, ((j < 19 ∨ j = 25 ∨ 41 ≤ j) ∨ (j = 19 ∧ i < 100) ∨ (j = 20 ∧ i < 4000) ∨ (j = 21 ∧ i < 4000) ∨ (j = 22 ∧ i < 104000) ∨ (j = 23 ∧ i < 6400) ∨ (j = 24 ∧ i < 100) ∨ (j = 26 ∧ 32 ≤ i) ∨ (j = 27 ∧ i = 1) ∨ (j = 28 ∧ i = 1)) → a' j i = a j i
theorem OutS.refl {K : KS} {f : MF} {a : MA} : OutS K K f f a a := ⟨fun _ _ _ _ _ => rfl, fun _ _ _ _ _ => rfl, fun _ _ _ => rfl, rfl, fun _ _ => rfl, fun _ _ _ => rfl⟩
theorem OutS.trans {K K1 K2 : KS} {f f1 f2 : MF} {a a1 a2 : MA} (h1 : OutS K K1 f f1 a a1) (h2 : OutS K1 K2 f1 f2 a1 a2) : OutS K K2 f f2 a a2 :=
  ⟨fun g kd t k q => (h2.1 g kd t k q).trans (h1.1 g kd t k q), fun kd t k i q => (h2.2.1 kd t k i q).trans (h1.2.1 kd t k i q), fun t k q => (h2.2.2.1 t k q).trans (h1.2.2.1 t k q), h2.2.2.2.1.trans h1.2.2.2.1, fun g q => (h2.2.2.2.2.1 g q).trans (h1.2.2.2.2.1 g q), fun j i q => (h2.2.2.2.2.2 j i q).trans (h1.2.2.2.2.2 j i q)⟩
theorem oS_I {K : KS} {f : MF} {a : MA} {g kd t k : Nat} {v : Int32} (h : kd = 2 ∨ kd = 6 ∨ ((kd = 4 ∨ kd = 5) ∧ t = 100)) : OutS K (ksI K g kd t k v) f f a a :=
  ⟨fun g' kd' t' k' q => if_neg (fun z => q (by obtain ⟨-, z2, z3, -⟩ := z; omega)), fun _ _ _ _ _ => rfl, fun _ _ _ => rfl, rfl, fun _ _ => rfl, fun _ _ _ => rfl⟩
theorem oS_A {K : KS} {f : MF} {a : MA} {kd t k i : Nat} {v : Int32} (h : (20 ≤ kd ∧ kd < 30) ∨ ((kd = 40 ∨ kd = 41) ∧ t = 100)) : OutS K (ksA K kd t k i v) f f a a :=
  ⟨fun _ _ _ _ _ => rfl, fun kd' t' k' i' q => if_neg (fun z => q (by obtain ⟨z1, z2, -⟩ := z; omega)), fun _ _ _ => rfl, rfl, fun _ _ => rfl, fun _ _ _ => rfl⟩
theorem oS_a {K : KS} {f : MF} {a : MA} {j i : Nat} {v : Int32} (h : ¬ ((j < 19 ∨ j = 25 ∨ 41 ≤ j) ∨ (j = 19 ∧ i < 100) ∨ (j = 20 ∧ i < 4000) ∨ (j = 21 ∧ i < 4000) ∨ (j = 22 ∧ i < 104000) ∨ (j = 23 ∧ i < 6400) ∨ (j = 24 ∧ i < 100) ∨ (j = 26 ∧ 32 ≤ i) ∨ (j = 27 ∧ i = 1) ∨ (j = 28 ∧ i = 1))) : OutS K K f f a (u2 a j i v) :=
  ⟨fun _ _ _ _ _ => rfl, fun _ _ _ _ _ => rfl, fun _ _ _ => rfl, rfl, fun _ _ => rfl, fun j' i' q => u2_n (fun z => h (by obtain ⟨z1, z2⟩ := z; subst z1 z2; exact q))⟩
theorem oS_f {K : KS} {f : MF} {a : MA} {g : Nat} {v : Int32} (h : (1348 ≤ g ∧ g ≤ 1353) ∨ g = 1364 ∨ g = 1366) : OutS K K f (u1 f g v) a a := ⟨fun _ _ _ _ _ => rfl, fun _ _ _ _ _ => rfl, fun _ _ _ => rfl, rfl, fun g' q => u1_n (fun z => q (by omega)), fun _ _ _ => rfl⟩
/-- two states that differ in what a plain instruction changes alone -/
def SameS (K K' : KS) (f f' : MF) (a a' : MA) : Prop :=
  (∀ g kd t k, ¬ (g = 409 ∨ g = 702 ∨ g = 503 ∨ g = 1002 ∨ g = 1003) → kkh K' g kd t k = kkh K g kd t k) ∧ (∀ kd t k i, ¬ (kd = 40 ∨ kd = 41 ∨ kd = 20) → kka K' kd t k i = kka K kd t k i) ∧ kkf K' = kkf K ∧ kkp K' = kkp K ∧
  (∀ g, g ≠ 1352 → f' g = f g) ∧ (∀ j, ¬ (j = 20 ∨ j = 22 ∨ j = 23 ∨ j = 24 ∨ j = 26 ∨ j = 27 ∨ j = 28) → a' j = a j) ∧ OutS K K' f f' a a'
section SM
variable {G : GA} {P : PD} {K K' : KS} {f f' : MF} {a a' : MA} {n d ne wk wk' : Nat} {pos at_ st el W root dp : Nat → Nat} {isF bes td : Nat → Bool} {fe fbs : Nat → Option Nat} {fel : Nat → Nat} {lim : Bool}
theorem SfI.more (h : SfI K a d wk st isF fe fbs fel) (hw : wk ≤ wk') : SfI K a d wk' st isF fe fbs fel := by
  refine ⟨h.1, fun k hk => ?_⟩
  obtain ⟨h1, h2, h3, h4, h5, h6, ⟨lt, l1, l2, l3, l4⟩, h8⟩ := h.2 k hk
  refine ⟨h1, h2, h3, h4, h5, h6, ⟨lt, l1, l2, by omega, l4⟩, fun q1 q2 => ?_⟩
  obtain ⟨m1, m2, bt, m3, m4, m5⟩ := h8 q1 q2
  exact ⟨m1, m2, bt, m3, m4, by omega⟩
theorem SerQ.same (h : SerQ G P K f a n d ne wk pos at_ st el W root dp isF bes td fe fbs fel lim) (hs : SameS K K' f f' a a') (hw : wk ≤ wk') : SerQ G P K' f' a' n d ne wk' pos at_ st el W root dp isF bes td fe fbs fel lim := by
  obtain ⟨h1, h2, h3, h4, h5, h6, h7, h8, h9, h10⟩ := h
  obtain ⟨s1, s2, s3, s4, s5, s6, -⟩ := hs
  have k22 : kka K' 22 0 0 = kka K 22 0 0 := funext fun i => s2 22 0 0 i (by decide)
  refine ⟨?_, ?_, ?_, ?_, ?_, ?_, ?_, ?_, ?_, ?_⟩
  · unfold SnI
    rw [s1 413 _ _ _ (by decide), s1 414 _ _ _ (by decide), s1 418 _ _ _ (by decide), s5 _ (by decide), s5 _ (by decide)]; exact h1
  · unfold SoI
    rw [k22, s6 29 (by decide)]; exact h2
  · obtain ⟨rk, r1, r2, r3⟩ := h3
    exact ⟨rk, by rw [s1 _ _ _ _ (by decide)]; exact r1, r2, fun q s hs => by rw [s2 _ _ _ _ (by decide)]; exact r3 q s hs⟩
  · obtain ⟨p0, pr, p1, p2, p3, p4⟩ := h4
    exact ⟨by rw [s1 _ _ _ _ (by decide), s5 _ (by decide)]; exact p0, pr, by rw [s1 _ _ _ _ (by decide)]; exact p1, by rw [s5 _ (by decide)]; exact p2, p3, fun i hi => by rw [s2 _ _ _ _ (by decide), s6 40 (by decide)]; exact p4 i hi⟩
  · unfold SlI
    rw [s1 1004 _ _ _ (by decide), s1 1005 _ _ _ (by decide), s5 _ (by decide), s5 _ (by decide), s5 _ (by decide)]; exact h5
  · obtain ⟨c1, c2, c3, c4⟩ := h6
    refine ⟨by rw [s5 _ (by decide)]; exact c1, c2, fun c hc => ?_, fun i hi => ?_⟩
    · rw [s2 _ _ _ _ (by decide), s6 38 (by decide)]; exact c3 c hc
    · rw [s1 _ _ _ _ (by decide), s1 _ _ _ _ (by decide), s1 _ _ _ _ (by decide), s1 _ _ _ _ (by decide), s6 39 (by decide)]; exact c4 i hi
  · intro c hc
    rw [s2 _ _ _ _ (by decide), s2 _ _ _ _ (by decide), s6 36 (by decide), s6 37 (by decide)]; exact h7 c hc
  · refine SfI.more ⟨h8.1, fun k hk => ?_⟩ hw
    rw [s1 701 _ _ _ (by decide), s1 705 _ _ _ (by decide), s1 704 _ _ _ (by decide), s1 703 _ _ _ (by decide), s1 708 _ _ _ (by decide), s1 706 _ _ _ (by decide), s1 707 _ _ _ (by decide), s6 31 (by decide), s6 30 (by decide), s6 32 (by decide), s6 34 (by decide), s6 35 (by decide)]
    exact h8.2 k hk
  · obtain ⟨g1, g2, ⟨u1_, u2_, u3_, u4_⟩, g4⟩ := h9
    refine ⟨?_, g2, ⟨u1_, u2_, u3_, fun e he => ?_⟩, fun e he => ?_⟩
    · have : jnB a' = jnB a := by unfold jnB; rw [s6 33 (by decide)]
      rw [this]; exact g1
    · rw [s2 _ _ _ _ (by decide)]; exact u4_ e he
    · rw [s2 _ _ _ _ (by decide)]; exact g4 e he
  · unfold PmI
    rw [s6 12 (by decide), s6 13 (by decide), s6 14 (by decide), s6 15 (by decide), s6 16 (by decide), s6 17 (by decide)]; exact h10
end SM
