set_option maxRecDepth 100000
/-- a cell is the same in both worlds -/
def Agr (x : Nat) (σ σ' : CS) : Prop := cty σ' x = cty σ x ∧ cln σ' x = cln σ x ∧ (∀ g, chi σ' g x = chi σ g x) ∧ (∀ g, chr σ' g x = chr σ g x) ∧ cai σ' x = cai σ x ∧ car σ' x = car σ x
theorem Agr.refl (x : Nat) (σ : CS) : Agr x σ σ := ⟨rfl, rfl, fun _ => rfl, fun _ => rfl, rfl, rfl⟩
theorem Agr.trans {x : Nat} {σ σ' σ'' : CS} (h : Agr x σ σ') (h' : Agr x σ' σ'') : Agr x σ σ'' := ⟨h'.1.trans h.1, h'.2.1.trans h.2.1, fun g => (h'.2.2.1 g).trans (h.2.2.1 g), fun g => (h'.2.2.2.1 g).trans (h.2.2.2.1 g), h'.2.2.2.2.1.trans h.2.2.2.2.1, h'.2.2.2.2.2.trans h.2.2.2.2.2⟩
theorem Agr.setI {x a g : Nat} {v : Int32} {σ : CS} (h : x ≠ a) : Agr x σ (setI σ g a v) := ⟨rfl, rfl, fun _ => if_neg (fun q => h q.2), fun _ => rfl, rfl, rfl⟩
theorem Agr.setR {x a g : Nat} {v : Option Nat} {σ : CS} (h : x ≠ a) : Agr x σ (setR σ g a v) := ⟨rfl, rfl, fun _ => rfl, fun _ => if_neg (fun q => h q.2), rfl, rfl⟩
theorem Agr.putI {x a j : Nat} {v : Int32} {σ : CS} (h : x ≠ a) : Agr x σ (putI σ a j v) := ⟨rfl, rfl, fun _ => rfl, fun _ => rfl, funext fun _ => if_neg (fun q => h q.1), rfl⟩
theorem Agr.putR {x a j : Nat} {v : Option Nat} {σ : CS} (h : x ≠ a) : Agr x σ (putR σ a j v) := ⟨rfl, rfl, fun _ => rfl, fun _ => rfl, rfl, funext fun _ => if_neg (fun q => h q.1)⟩
theorem Agr.newO {x t : Nat} {σ : CS} (h : x ≠ csz σ) : Agr x σ (newO σ t) := ⟨if_neg h, rfl, fun _ => if_neg h, fun _ => if_neg h, rfl, rfl⟩
theorem Agr.newA {x t n : Nat} {σ : CS} (h : x ≠ csz σ) : Agr x σ (newA σ t n) := ⟨if_neg h, if_neg h, fun _ => rfl, fun _ => rfl, if_neg h, if_neg h⟩
theorem Agr.cpyR {x a0 a sp dp n : Nat} {σ : CS} (h : x ≠ a) : Agr x σ (cpyR σ a0 a sp dp n) := ⟨rfl, rfl, fun _ => rfl, fun _ => rfl, rfl, if_neg h⟩
/-- behind an add: the list l with array e and n elements got x -/
def AddP (σ : CS) (l e n x : Nat) (σ' : CS) (e' c s : Nat) : Prop :=
  chr σ' 901 l = some e' ∧ chi σ' 902 l = nI (n + 1) ∧ cty σ' e' = 53 ∧ n + 1 ≤ cln σ' e' ∧ 2 ≤ cln σ' e' ∧ (∀ k, k < n → car σ' e' k = car σ e k) ∧ car σ' e' n = some x ∧
  ((e' = e ∧ csz σ' = csz σ ∧ cln σ' e' = cln σ e ∧ c = 0 ∧ s = 0) ∨ (e' = csz σ ∧ csz σ' = csz σ + 1 ∧ n = cln σ e ∧ cln σ' e' = n + n / 2 ∧ c = 1 ∧ s = n + n / 2)) ∧
  (∀ y, y < csz σ → y ≠ l → y ≠ e → Agr y σ σ') ∧ cty σ' l = cty σ l
section JG
variable {σ : CS} {l e i n x : Nat}
theorem nI_shr1 {c : Nat} (h : c < 2 ^ 31) : nI c >>> ((1 : Int32) &&& 31) = nI (c / 2) := pk_shrN h _ 1 (by decide)
theorem J_newLength {c : Nat} (h2 : 2 ≤ c) (hc : c ≤ 1000000) : fJ11_newLength (nI c) (nI (c + 1) - nI c) (nI (c / 2)) σ = some (nI (c + c / 2), σ, 0, 0) := by
  have e1 : nI (c + 1) - nI c = nI 1 := by rw [pk_sub (by omega)]; congr 1; omega
  have e2 : (if nI 1 < nI (c / 2) then nI (c / 2) else nI 1) = nI (c / 2) := by
    by_cases h : 1 < c / 2
    · rw [if_pos (nI_lt h (by omega))]
    · rw [if_neg (nI_nlt (by omega) (by omega)), show c / 2 = 1 by omega]
  have e3 : (2147483639 : Int32) = nI 2147483639 := rfl
  unfold fJ11_newLength
  rw [e1, e2, nI_add, if_neg (nI_nle (by omega) (by omega)), e3, if_neg (nI_nlt (by omega) (by decide))]
  rfl
theorem nb_nI {c : Nat} (h : c ≤ 1000000) : nb (nI c) = true := decide_eq_true ⟨nI_pos (by omega), by rw [nI_clamp (by omega)]; exact h⟩
/-- a full list grows -/
theorem J_grow {m c : Nat} (h1 : cty σ l = 10) (h2 : chr σ 901 l = some e) (h3 : cty σ e = 53) (h4 : chi σ 902 l = nI c) (h5 : cln σ e = c) (hc : 2 ≤ c) (hc2 : c ≤ 100000) (hm : m = c + c / 2) (hl : l < csz σ) (he : e < csz σ)
    (hel : ∀ k, k < c → ∃ y, car σ e k = some y ∧ y < csz σ ∧ isEl (cty σ y) = true) :
    fJ2_grow l σ = some (some (csz σ), setR (cpyR (newA σ 53 m) e (csz σ) 0 0 c) 901 l (some (csz σ)), 1, m) := by
  have a1 : cty (newA σ 53 m) e = 53 := by rw [show cty (newA σ 53 m) e = cty σ e from if_neg (by omega)]; exact h3
  have a2 : cty (newA σ 53 m) (csz σ) = 53 := if_pos rfl
  have a3 : cln (newA σ 53 m) e = c := by rw [show cln (newA σ 53 m) e = cln σ e from if_neg (by omega)]; exact h5
  have a4 : cln (newA σ 53 m) (csz σ) = m := if_pos rfl
  have a5 : cty (cpyR (newA σ 53 m) e (csz σ) 0 0 c) l = 10 := by rw [show cty (cpyR (newA σ 53 m) e (csz σ) 0 0 c) l = cty σ l from if_neg (by omega)]; exact h1
  have a6 : elOk (newA σ 53 m) e c = true := by
    unfold elOk
    rw [List.all_eq_true]
    intro k hk
    obtain ⟨y, y1, y2, y3⟩ := hel k (List.mem_range.mp hk)
    have b1 : car (newA σ 53 m) e k = some y := by rw [show car (newA σ 53 m) e = car σ e from if_neg (by omega)]; exact y1
    have b2 : cty (newA σ 53 m) y = cty σ y := if_neg (by omega)
    simp only [b1, b2]; exact y3
  have a7 : (if nI m < Int32.ofNat c then nI m else Int32.ofNat c) = nI c := if_neg (nI_nlt (by omega) (by omega))
  have a8 : (0 : Int32) < Int32.ofNat c := nI_lt (a := 0) (by omega) (by omega)
  have a9 : nI c + 1 = nI (c + 1) := nI_1 c
  have z : (0 : Int32).toNatClampNeg = 0 := rfl
  have hgrow : fJ13_copyOf_3 e (nI m) σ = some (some (csz σ), cpyR (newA σ 53 m) e (csz σ) 0 0 c, 1, m) := by
    unfold fJ13_copyOf_3
    rw [nb_nI (by omega), chk_t, cln_ (show m < 2 ^ 31 by omega)]
    simp only [tg, a1, a2, a3, a4, a7, decide_true, chk_t, nb_nI (show c ≤ 1000000 by omega), cln_ (show c < 2 ^ 31 by omega), le_, Nat.le_refl, z, Nat.zero_add, show c ≤ m by omega, a6, cret, cal_s]
  unfold fJ2_grow fJ2_grow_2
  simp only [tg, h1, decide_true, chk_t, h2, drf_s, h3, h5, h4]
  rw [if_pos a8, a9]
  rw [show Int32.ofNat c = nI c from rfl, nI_shr1 (by omega), J_newLength hc (by omega), cbn_0]
  simp only [fJ13_copyOf_2, tg, h1, h2, h3, drf_s, decide_true, chk_t, ← hm, hgrow, cbn_c, cret, Option.map_some, a5, Nat.add_zero]
theorem J_addG {m c : Nat} (h1 : cty σ l = 10) (h2 : chr σ 901 l = some e) (h3 : cty σ e = 53) (h4 : chi σ 902 l = nI c) (h5 : cln σ e = c) (hc : 2 ≤ c) (hc2 : c ≤ 100000) (hm : m = c + c / 2) (hl : l < csz σ) (he : e < csz σ) (hx : x < csz σ) (hx2 : isEl (cty σ x) = true)
    (hel : ∀ k, k < c → ∃ y, car σ e k = some y ∧ y < csz σ ∧ isEl (cty σ y) = true) :
    fJ2_add l x σ = some (1, setI (putR (setR (cpyR (newA (setI σ 900 l (chi σ 900 l + 1)) 53 m) e (csz σ) 0 0 c) 901 l (some (csz σ))) (csz σ) c (some x)) 902 l (nI (c + 1)), 1, m) := by
  have e1 : chr (setI σ 900 l (chi σ 900 l + 1)) 901 l = some e := h2
  have e2 : chi (setI σ 900 l (chi σ 900 l + 1)) 902 l = nI c := by rw [chi_setI, if_neg (fun q => absurd q.1 (by decide))]; exact h4
  have g := J_grow (σ := setI σ 900 l (chi σ 900 l + 1)) (m := m) (c := c) h1 h2 h3 e2 h5 hc hc2 hm hl he hel
  have f1 : cty (setR (cpyR (newA (setI σ 900 l (chi σ 900 l + 1)) 53 m) e (csz σ) 0 0 c) 901 l (some (csz σ))) (csz σ) = 53 := if_pos rfl
  have f2 : cty (setR (cpyR (newA (setI σ 900 l (chi σ 900 l + 1)) 53 m) e (csz σ) 0 0 c) 901 l (some (csz σ))) x = cty σ x := if_neg (by show ¬ x = csz σ; omega)
  have f3 : cln (setR (cpyR (newA (setI σ 900 l (chi σ 900 l + 1)) 53 m) e (csz σ) 0 0 c) 901 l (some (csz σ))) (csz σ) = m := if_pos rfl
  have f4 : cty (putR (setR (cpyR (newA (setI σ 900 l (chi σ 900 l + 1)) 53 m) e (csz σ) 0 0 c) 901 l (some (csz σ))) (csz σ) c (some x)) l = 10 := by
    rw [show cty (putR (setR (cpyR (newA (setI σ 900 l (chi σ 900 l + 1)) 53 m) e (csz σ) 0 0 c) 901 l (some (csz σ))) (csz σ) c (some x)) l = cty σ l from if_neg (by show ¬ l = csz σ; omega)]; exact h1
  have g1 : cty (setI σ 900 l (chi σ 900 l + 1)) e = 53 := h3
  have g2 : cty (setI σ 900 l (chi σ 900 l + 1)) l = 10 := h1
  have g3 : cln (setI σ 900 l (chi σ 900 l + 1)) e = c := h5
  have g4 : csz (setI σ 900 l (chi σ 900 l + 1)) = csz σ := rfl
  rw [g4] at g
  unfold fJ2_add fJ2_add_2
  simp only [tg, h1, decide_true, chk_t, e1, drf_s, e2, g1, g2, g3]
  rw [if_pos (show nI c = Int32.ofNat c from rfl), g]
  simp only [cbn_c, drf_s, f1, f2, f3, f4, decide_true, chk_t, hx2, ibn (show c < m by omega) (show m < 2 ^ 31 by omega), cln_ (show c < 2 ^ 31 by omega), nI_1, cret, Option.map_some, Nat.add_zero]
end JG
section JH
variable {B : CS} {G : GA} {K : KS} {l e n x : Nat}
/-- one more in a list of the world -/
theorem hp_add (hk : 50 ≤ (gro G l).1) (hout : 90 ≤ (gro G (csz B)).1) (h1 : cty B l = 10) (h2 : chr B 901 l = some e) (h2' : chr (hp G K B) 901 l = some e) (h3 : cty B e = 53) (h4 : chi B 902 l = nI n) (h5 : n ≤ cln B e) (hc : 2 ≤ cln B e) (hc2 : cln B e ≤ 100000) (hl : l < csz B) (he : e < csz B) (hle : l ≠ e) (hx : x < csz B) (hxe : x ≠ e) (hx2 : isEl (cty B x) = true)
    (hel : ∀ k, k < n → ∃ y, car B e k = some y ∧ y < csz B ∧ isEl (cty B y) = true) :
    ∃ B' e' c s, fJ2_add l x (hp G K B) = some (1, hp G K B', c, s) ∧ AddP B l e n x B' e' c s := by
  have k902 : chi (hp G K B) 902 l = nI n := by rw [hpB_hi hk]; exact h4
  by_cases c : n < cln B e
  · refine ⟨setI (putR (setI B 900 l (chi B 900 l + 1)) e n (some x)) 902 l (nI (n + 1)), e, 0, 0, ?_, ?_⟩
    · rw [J_addR (σ := hp G K B) (e := e) (n := n) h1 h2' h3 k902 c (by show cln B e < _; omega) hx2]
      rw [hpB_hi hk, hpB_setI hk, hpB_putR, hpB_setI hk]
    · refine ⟨h2, if_pos ⟨rfl, rfl⟩, h3, c, hc, fun k hk' => ?_, if_pos ⟨rfl, rfl⟩, Or.inl ⟨rfl, rfl, rfl, rfl, rfl⟩, fun y hy1 hy2 hy3 => ?_, rfl⟩
      · exact if_neg (fun q => by omega)
      · exact ((Agr.setI hy2).trans (Agr.putR hy3)).trans (Agr.setI hy2)
  · have e1 : cln B e = n := by omega
    refine ⟨setI (putR (setR (cpyR (newA (setI B 900 l (chi B 900 l + 1)) 53 (n + n / 2)) e (csz B) 0 0 n) 901 l (some (csz B))) (csz B) n (some x)) 902 l (nI (n + 1)), csz B, 1, n + n / 2, ?_, ?_⟩
    · rw [J_addG (σ := hp G K B) (e := e) (c := n) (m := n + n / 2) h1 h2' h3 k902 e1 (by omega) (by omega) rfl hl he hx hx2 hel]
      rw [hpB_hi hk, hpB_setI hk]
      have hn : newA (hp G K (setI B 900 l (chi B 900 l + 1))) 53 (n + n / 2) = hp G K (newA (setI B 900 l (chi B 900 l + 1)) 53 (n + n / 2)) := hpB_newA' hout
      rw [hn, hpB_cpyR, hpB_setR hk, hpB_putR, hpB_setI hk]
      rfl
    · refine ⟨if_pos ⟨rfl, rfl⟩, if_pos ⟨rfl, rfl⟩, if_pos rfl, ?_, ?_, fun k hk' => ?_, if_pos ⟨rfl, rfl⟩, Or.inr ⟨rfl, rfl, e1.symm, if_pos rfl, rfl, rfl⟩, fun y hy1 hy2 hy3 => ?_, ?_⟩
      · show n + 1 ≤ (if csz B = csz B then n + n / 2 else _); rw [if_pos rfl]; omega
      · show 2 ≤ (if csz B = csz B then n + n / 2 else _); rw [if_pos rfl]; omega
      · show (if csz B = csz B ∧ k = n then some x else (if csz B = csz B then va_cpy ((if e = csz B then (fun _ => none) else car B e)) _ 0 0 n else _) k) = _
        rw [if_neg (by omega), if_pos rfl, if_neg (by omega), pk_cpy_in (by omega) (by omega)]
        congr 1
        omega
      · have hy4 : y ≠ csz B := by omega
        exact (((((Agr.setI hy2).trans (Agr.newA hy4)).trans (Agr.cpyR hy4)).trans (Agr.setR hy2)).trans (Agr.putR hy4)).trans (Agr.setI hy2)
      · exact if_neg (by show ¬ l = csz B; omega)
end JH
