set_option maxRecDepth 100000
/-! fibers and threads: values alone, and types alone -/
def FbV (G : GA) (K : KS) (a : MA) (t d h : Nat) : Prop :=
  (kkh K 502 4 t 0 = nI d ∧ a 19 t = nI d ∧ d ≤ 40 ∧ d ≤ gnf G t) ∧ (kkh K 503 4 t 0 = nI h ∧ a 24 t = nI h ∧ h ≤ 64) ∧
  (∀ i, i < h → kka K 40 t 0 i = a 23 (64 * t + i)) ∧ (∀ k, k < d → kkh K 702 5 t k = a 20 (40 * t + k)) ∧ (∀ k, k < d → ∀ v, v < 26 → kka K 41 t k v = a 22 (26 * (40 * t + k) + v))
def FbT (P : PD) (ht : Nat → Nat) (K : KS) (t d h : Nat) : Prop := ∀ k, k < d → ∃ pc, pc < pn P ∧ kkh K 702 5 t k = nI pc ∧ ht pc = (if k + 1 = d then h else 0)
section FV
variable {G : GA} {P : PD} {ht : Nat → Nat} {K K' : KS} {a a' : MA} {t d h k0 q pc : Nat} {v : Int32}
theorem FbI.val (h1 : FbI G P ht K a t d h) : FbV G K a t d h := by
  obtain ⟨a1, a2, a3, a4, a5⟩ := h1
  refine ⟨a1, a2, a3, fun k hk => ?_, a5⟩
  obtain ⟨pc, -, b1, b2, -⟩ := a4 k hk
  rw [b1, b2]
theorem FbI.typ (h1 : FbI G P ht K a t d h) : FbT P ht K t d h := by
  obtain ⟨a1, a2, a3, a4, a5⟩ := h1
  intro k hk
  obtain ⟨pc, b0, b1, b2, b3⟩ := a4 k hk
  exact ⟨pc, b0, b1, b3⟩
theorem FbI.of (h1 : FbV G K a t d h) (h2 : FbT P ht K t d h) : FbI G P ht K a t d h := by
  obtain ⟨a1, a2, a3, a4, a5⟩ := h1
  refine ⟨a1, a2, a3, fun k hk => ?_, a5⟩
  obtain ⟨pc, b0, b1, b2⟩ := h2 k hk
  exact ⟨pc, b0, b1, (a4 k hk).symm.trans b1, b2⟩
theorem FbV.nx (h1 : FbV G K a t d h) : FbV G (ksI K 702 5 t k0 v) (u2 a 20 (40 * t + k0) v) t d h := by
  obtain ⟨⟨a1, a2, a3, a4⟩, ⟨b1, b2, b3⟩, c1, d1, e1⟩ := h1
  refine ⟨⟨by rw [kh_I, if_neg (by omega)]; exact a1, by rw [u2_n (by omega)]; exact a2, a3, a4⟩, ⟨by rw [kh_I, if_neg (by omega)]; exact b1, by rw [u2_n (by omega)]; exact b2, b3⟩, fun i hi => ?_, fun k hk => ?_, fun k hk w hw => ?_⟩
  · rw [ka_I, u2_n (by omega)]; exact c1 i hi
  · rw [kh_I]
    by_cases c : k = k0
    · rw [if_pos ⟨rfl, rfl, rfl, c⟩, c, u2_s]
    · rw [if_neg (fun z => c z.2.2.2), u2_n (by omega)]; exact d1 k hk
  · rw [ka_I, u2_n (by omega)]; exact e1 k hk w hw
theorem FbV.push (h1 : FbV G K a t d h) (h64 : h < 64) : FbV G (kPush K t h v) (u2 (u2 a 23 (64 * t + h) v) 24 t (nI (h + 1))) t d (h + 1) := by
  obtain ⟨⟨a1, a2, a3, a4⟩, ⟨b1, b2, b3⟩, c1, d1, e1⟩ := h1
  unfold kPush
  refine ⟨⟨by rw [kh_I, if_neg (by omega), kh_A]; exact a1, by rw [u2_n (by omega), u2_n (by omega)]; exact a2, a3, a4⟩, ⟨by rw [kh_I, if_pos ⟨rfl, rfl, rfl, rfl⟩], by rw [u2_s], by omega⟩, fun i hi => ?_, fun k hk => ?_, fun k hk w hw => ?_⟩
  · rw [ka_I, ka_A, u2_n (by omega)]
    by_cases c : i = h
    · rw [if_pos ⟨rfl, rfl, rfl, c⟩, c, u2_s]
    · rw [if_neg (fun z => c z.2.2.2), u2_n (by omega)]; exact c1 i (by omega)
  · rw [kh_I, if_neg (by omega), kh_A, u2_n (by omega), u2_n (by omega)]; exact d1 k hk
  · rw [ka_I, ka_A, if_neg (by omega), u2_n (by omega), u2_n (by omega)]; exact e1 k hk w hw
theorem FbV.pop (h1 : FbV G K a t d (h + 1)) : FbV G (ksI K 503 4 t 0 (nI h)) (u2 a 24 t (nI h)) t d h := by
  obtain ⟨⟨a1, a2, a3, a4⟩, ⟨b1, b2, b3⟩, c1, d1, e1⟩ := h1
  refine ⟨⟨by rw [kh_I, if_neg (by omega)]; exact a1, by rw [u2_n (by omega)]; exact a2, a3, a4⟩, ⟨by rw [kh_I, if_pos ⟨rfl, rfl, rfl, rfl⟩], by rw [u2_s], by omega⟩, fun i hi => ?_, fun k hk => ?_, fun k hk w hw => ?_⟩
  · rw [ka_I, u2_n (by omega)]; exact c1 i (by omega)
  · rw [kh_I, if_neg (by omega), u2_n (by omega)]; exact d1 k hk
  · rw [ka_I, u2_n (by omega)]; exact e1 k hk w hw
theorem FbV.pop2 (h1 : FbV G K a t d (h + 2)) : FbV G (ksI K 503 4 t 0 (nI h)) (u2 a 24 t (nI h)) t d h := by
  obtain ⟨⟨a1, a2, a3, a4⟩, ⟨b1, b2, b3⟩, c1, d1, e1⟩ := h1
  refine ⟨⟨by rw [kh_I, if_neg (by omega)]; exact a1, by rw [u2_n (by omega)]; exact a2, a3, a4⟩, ⟨by rw [kh_I, if_pos ⟨rfl, rfl, rfl, rfl⟩], by rw [u2_s], by omega⟩, fun i hi => ?_, fun k hk => ?_, fun k hk w hw => ?_⟩
  · rw [ka_I, u2_n (by omega)]; exact c1 i (by omega)
  · rw [kh_I, if_neg (by omega), u2_n (by omega)]; exact d1 k hk
  · rw [ka_I, u2_n (by omega)]; exact e1 k hk w hw
theorem FbV.var (h1 : FbV G K a t d h) (hq : q < 26) : FbV G (ksA K 41 t k0 q v) (u2 a 22 (26 * (40 * t + k0) + q) v) t d h := by
  obtain ⟨⟨a1, a2, a3, a4⟩, ⟨b1, b2, b3⟩, c1, d1, e1⟩ := h1
  refine ⟨⟨by rw [kh_A]; exact a1, by rw [u2_n (by omega)]; exact a2, a3, a4⟩, ⟨by rw [kh_A]; exact b1, by rw [u2_n (by omega)]; exact b2, b3⟩, fun i hi => ?_, fun k hk => ?_, fun k hk w hw => ?_⟩
  · rw [ka_A, if_neg (by omega), u2_n (by omega)]; exact c1 i hi
  · rw [kh_A, u2_n (by omega)]; exact d1 k hk
  · rw [ka_A]
    by_cases c : k = k0 ∧ w = q
    · rw [if_pos ⟨rfl, rfl, c.1, c.2⟩, c.1, c.2, u2_s]
    · rw [if_neg (fun z => c z.2.2), u2_n (by omega)]; exact e1 k hk w hw
/-- what doesn't concern it -/
theorem FbV.oth (h1 : FbV G K a t d h) (hk : ∀ g kd t' k, (kd = 4 ∧ (g = 502 ∨ g = 503)) ∨ (kd = 5 ∧ g = 702) → kkh K' g kd t' k = kkh K g kd t' k) (hk2 : ∀ kd t' k i, kd = 40 ∨ kd = 41 → kka K' kd t' k i = kka K kd t' k i) (ha : ∀ j, j = 19 ∨ j = 20 ∨ j = 22 ∨ j = 23 ∨ j = 24 → a' j = a j) : FbV G K' a' t d h := by
  unfold FbV
  rw [hk 502 4 t 0 (by omega), hk 503 4 t 0 (by omega), ha 19 (by omega), ha 24 (by omega), ha 23 (by omega), ha 20 (by omega), ha 22 (by omega)]
  obtain ⟨a1, a2, a3, a4, a5⟩ := h1
  exact ⟨a1, a2, fun i hi => by rw [hk2 40 t 0 i (by omega)]; exact a3 i hi, fun k hk' => by rw [hk 702 5 t k (by omega)]; exact a4 k hk', fun k hk' v hv => by rw [hk2 41 t k v (by omega)]; exact a5 k hk' v hv⟩
theorem FbT.top {h' : Nat} (h1 : FbT P ht K t (d + 1) h) (hk : ∀ k, k < d → kkh K' 702 5 t k = kkh K 702 5 t k) (hp : pc < pn P) (hn : kkh K' 702 5 t d = nI pc) (hh : ht pc = h') : FbT P ht K' t (d + 1) h' := by
  intro k hk'
  by_cases c : k = d
  · subst c
    exact ⟨pc, hp, hn, by rw [if_pos rfl]; exact hh⟩
  · obtain ⟨pc', b0, b1, b2⟩ := h1 k hk'
    refine ⟨pc', b0, by rw [hk k (by omega)]; exact b1, ?_⟩
    rw [if_neg (by omega)] at b2
    rw [if_neg (by omega)]; exact b2
end FV
