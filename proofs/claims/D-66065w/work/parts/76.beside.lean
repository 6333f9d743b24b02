set_option maxRecDepth 100000
/-! the serial run: which strands lie beside each other; the world with an exception more -/
section BS
variable {G : GA} {B : CS} {P : PD} {ht : Nat → Nat} {K K' : KS} {f : MF} {a : MA} {n ne d wk x y : Nat} {pos at_ : Nat → Nat} {lim : Bool}
theorem Ext.newO (hS : St G B) (m : Nat) : Ext G B G (newO B m) := by
  refine ⟨fun kd t k h _ => ⟨h, rfl⟩, by show csz B ≤ csz B + 1; omega, fun x hx h => ⟨h, Agr.newO (by omega)⟩⟩
theorem St.newO (hS : St G B) (m : Nat) : St G (newO B m) := by
  have ag : ∀ kd t k, okR G kd t k → Agr (gad G kd t k) B (Jvm.Pilot.CForkJoinDeskLaw_law_r8786_66423d.newO B m) := fun kd t k h => Agr.newO (by have := hS.lt h; omega)
  have ls : ∀ kl ke t nn M (f : Nat → Nat), okR G kl t 0 → okR G ke t 0 → LsI G B kl ke t nn M f → LsI G (Jvm.Pilot.CForkJoinDeskLaw_law_r8786_66423d.newO B m) kl ke t nn M f := by
    intro kl ke t nn M f r1 r2 hL
    obtain ⟨x1, x2, x3, x4, x5⟩ := hL
    have A1 := ag _ _ _ r1
    have A2 := ag _ _ _ r2
    refine ⟨by rw [A1.2.2.1]; exact x1, by rw [A2.2.1]; exact x2, by rw [A2.2.1]; exact x3, by rw [A2.2.1]; exact x4, fun k hk => by rw [A2.2.2.2.2.2]; exact x5 k hk⟩
  refine ⟨⟨fun kd t k hr => ?_, hS.1.2⟩, ⟨fun g kd kd' hs t k hr => ?_, ?_⟩, fun t ht => ⟨(hS.2.2.1 t ht).1, ls 50 60 t _ _ _ (ok_50 ht) (ok_60 ht) (hS.2.2.1 t ht).2⟩, hS.2.2.2.1, ls 51 61 0 _ _ _ (ok_1 (by decide)) (ok_1 (by decide)) hS.2.2.2.2.1, hS.2.2.2.2.2.1, ls 52 62 0 _ _ _ (ok_1 (by decide)) (ok_1 (by decide)) hS.2.2.2.2.2.2⟩
  · obtain ⟨a1, a2, a3, a4⟩ := hS.1.1 kd t k hr
    have A := ag _ _ _ hr
    exact ⟨by show _ < csz B + 1; omega, a2, by rw [A.1]; exact a3, fun q => by rw [A.2.1]; exact a4 q⟩
  · rw [(ag _ _ _ hr).2.2.2.1]; exact hS.2.1.1 g kd kd' hs t k hr
  · rw [(ag _ _ _ (ok_1 (by decide))).2.2.2.1]; exact hS.2.1.2
theorem SerQ.rk {st el W root dp : Nat → Nat} {isF bes td : Nat → Bool} {fe fbs : Nat → Option Nat} {fel : Nat → Nat} (h : SerQ G P K f a n d ne wk pos at_ st el W root dp isF bes td fe fbs fel lim) (k1 : ∀ g kd t k, g ≠ 415 → kkh K' g kd t k = kkh K g kd t k) (k2 : ∀ kd t k i, kd ≠ 23 → kka K' kd t k i = kka K kd t k i) (hr : SrI K' n pos) : SerQ G P K' f a n d ne wk pos at_ st el W root dp isF bes td fe fbs fel lim := by
  obtain ⟨h1, h2, h3, h4, h5, h6, h7, h8, h9, h10⟩ := h
  have k22 : kka K' 22 0 0 = kka K 22 0 0 := funext fun i => k2 22 0 0 i (by decide)
  refine ⟨?_, ?_, hr, ?_, ?_, ?_, ?_, ?_, ?_, h10⟩
  · unfold SnI
    rw [k1 413 _ _ _ (by decide), k1 414 _ _ _ (by decide), k1 418 _ _ _ (by decide)]; exact h1
  · unfold SoI
    rw [k22]; exact h2
  · obtain ⟨p0, pr, p1, p2, p3, p4⟩ := h4
    exact ⟨by rw [k1 _ _ _ _ (by decide)]; exact p0, pr, by rw [k1 _ _ _ _ (by decide)]; exact p1, p2, p3, fun i hi => by rw [k2 _ _ _ _ (by decide)]; exact p4 i hi⟩
  · unfold SlI
    rw [k1 1004 _ _ _ (by decide), k1 1005 _ _ _ (by decide)]; exact h5
  · obtain ⟨c1, c2, c3, c4⟩ := h6
    refine ⟨c1, c2, fun c hc => ?_, fun i hi => ?_⟩
    · rw [k2 _ _ _ _ (by decide)]; exact c3 c hc
    · rw [k1 _ _ _ _ (by decide), k1 _ _ _ _ (by decide), k1 _ _ _ _ (by decide), k1 _ _ _ _ (by decide)]; exact c4 i hi
  · intro c hc
    rw [k2 _ _ _ _ (by decide), k2 _ _ _ _ (by decide)]; exact h7 c hc
  · refine ⟨h8.1, fun k hk => ?_⟩
    rw [k1 701 _ _ _ (by decide), k1 705 _ _ _ (by decide), k1 704 _ _ _ (by decide), k1 703 _ _ _ (by decide), k1 708 _ _ _ (by decide), k1 706 _ _ _ (by decide), k1 707 _ _ _ (by decide)]
    exact h8.2 k hk
  · obtain ⟨g1, g2, ⟨u1_, u2_, u3_, u4_⟩, g4⟩ := h9
    refine ⟨g1, g2, ⟨u1_, u2_, u3_, fun e he => ?_⟩, fun e he => ?_⟩
    · rw [k2 _ _ _ _ (by decide)]; exact u4_ e he
    · rw [k2 _ _ _ _ (by decide)]; exact g4 e he
/-- .. in whatever state the run is -/
theorem SerX.rk (h : SerX G B P ht K f a d wk lim) (k1 : ∀ g kd t k, g ≠ 415 → kkh K' g kd t k = kkh K g kd t k) (k2 : ∀ kd t k i, kd ≠ 23 → kka K' kd t k i = kka K kd t k i) (k3 : kkf K' = kkf K) (k4 : kkp K' = kkp K) (hR : ∀ n ne pos at_, SnI K f n ne → SoI K a n pos at_ → SrI K n pos → SrI K' n pos) : SerX G B P ht K' f a d wk lim := by
  rcases h with ⟨hh, h1, h2, ⟨pa, al, ia, h3, h3'⟩, h4, ⟨h5, h5', h5'', h5a, h5b⟩, h6, n, ne, pos, at_, st, el, W, root, dp, isF, bes, td, fe, fbs, fel, hQ⟩ | ⟨rfl, rfl, h1, h2, ⟨pa, al, ia, h3, h3'⟩, h4, ⟨h5, h5', h5'', h5a, h5b⟩, h6, n, ne, pos, at_, td, s1, s2, s3, s4, s5, s6, s10⟩
  · refine Or.inl ⟨hh, h1, by unfold FkOk; rw [k3]; exact h2, ⟨pa, al, ia, h3, by rw [k4]; exact h3'⟩, h4, ⟨?_, ?_, h5'', ?_, fun c hc => ?_⟩, FbI.of (h6.val.oth (fun g kd t' k q => k1 _ _ _ _ (by omega)) (fun kd t' k i q => k2 _ _ _ _ (by omega)) (fun _ _ => rfl)) (fun k hk => ?_), n, ne, pos, at_, st, el, W, root, dp, isF, bes, td, fe, fbs, fel, hQ.rk k1 k2 (hR n ne pos at_ hQ.1 hQ.2.1 hQ.2.2.1)⟩
    · rw [k1 _ _ _ _ (by decide)]; exact h5
    · rw [k1 _ _ _ _ (by decide)]; exact h5'
    · rw [k1 _ _ _ _ (by decide)]; exact h5a
    · rw [k2 _ _ _ _ (by decide)]; exact h5b c hc
    · obtain ⟨pc, q1, q2, q3⟩ := h6.typ k hk
      exact ⟨pc, q1, by rw [k1 _ _ _ _ (by decide)]; exact q2, q3⟩
  · refine Or.inr ⟨rfl, rfl, h1, by unfold FkOk; rw [k3]; exact h2, ⟨pa, al, ia, h3, by rw [k4]; exact h3'⟩, h4, ⟨?_, ?_, h5'', ?_, fun c hc => ?_⟩, ⟨by rw [k1 _ _ _ _ (by decide)]; exact h6.1, h6.2⟩, n, ne, pos, at_, td, ?_, ?_, hR n ne pos at_ s1 s2 s3, ?_, ?_, ?_, s10⟩
    · rw [k1 _ _ _ _ (by decide)]; exact h5
    · rw [k1 _ _ _ _ (by decide)]; exact h5'
    · rw [k1 _ _ _ _ (by decide)]; exact h5a
    · rw [k2 _ _ _ _ (by decide)]; exact h5b c hc
    · unfold SnI
      rw [k1 413 _ _ _ (by decide), k1 414 _ _ _ (by decide), k1 418 _ _ _ (by decide)]; exact s1
    · have k22 : kka K' 22 0 0 = kka K 22 0 0 := funext fun i => k2 22 0 0 i (by decide)
      unfold SoI
      rw [k22]; exact s2
    · obtain ⟨p0, pr, p1, p2, p3, p4⟩ := s4
      exact ⟨by rw [k1 _ _ _ _ (by decide)]; exact p0, pr, by rw [k1 _ _ _ _ (by decide)]; exact p1, p2, p3, fun i hi => by rw [k2 _ _ _ _ (by decide)]; exact p4 i hi⟩
    · unfold SlI
      rw [k1 1004 _ _ _ (by decide), k1 1005 _ _ _ (by decide)]; exact s5
    · obtain ⟨c1, c2, c3, c4⟩ := s6
      refine ⟨c1, c2, fun c hc => ?_, fun i hi => ?_⟩
      · rw [k2 _ _ _ _ (by decide)]; exact c3 c hc
      · rw [k1 _ _ _ _ (by decide), k1 _ _ _ _ (by decide), k1 _ _ _ _ (by decide), k1 _ _ _ _ (by decide)]; exact c4 i hi
end BS
