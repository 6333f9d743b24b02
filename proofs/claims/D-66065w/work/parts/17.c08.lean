set_option maxRecDepth 100000
theorem dX2_read_0 : decode cX2_read 0 = .ok (.aload_n 0, 1) := by decide +kernel
theorem dX2_read_1 : decode cX2_read 1 = .ok (.aload_n 1, 1) := by decide +kernel
theorem dX2_read_2 : decode cX2_read 2 = .ok (.putfield 37, 3) := by decide +kernel
theorem dX2_read_5 : decode cX2_read 5 = .ok (.aload_n 0, 1) := by decide +kernel
theorem dX2_read_6 : decode cX2_read 6 = .ok (.iload_n 2, 1) := by decide +kernel
theorem dX2_read_7 : decode cX2_read 7 = .ok (.putfield 34, 3) := by decide +kernel
theorem dX2_read_10 : decode cX2_read 10 = .ok (.aload_n 0, 1) := by decide +kernel
theorem dX2_read_11 : decode cX2_read 11 = .ok (.iconst 0, 1) := by decide +kernel
theorem dX2_read_12 : decode cX2_read 12 = .ok (.putfield 31, 3) := by decide +kernel
theorem dX2_read_15 : decode cX2_read 15 = .ok (.aload_n 0, 1) := by decide +kernel
theorem dX2_read_16 : decode cX2_read 16 = .ok (.new 58, 3) := by decide +kernel
theorem dX2_read_19 : decode cX2_read 19 = .ok (.dup, 1) := by decide +kernel
theorem dX2_read_20 : decode cX2_read 20 = .ok (.invokespecial 71, 3) := by decide +kernel
theorem dX2_read_23 : decode cX2_read 23 = .ok (.putfield 53, 3) := by decide +kernel
theorem dX2_read_26 : decode cX2_read 26 = .ok (.aload_n 0, 1) := by decide +kernel
theorem dX2_read_27 : decode cX2_read 27 = .ok (.getfield 20, 3) := by decide +kernel
theorem dX2_read_30 : decode cX2_read 30 = .ok (.invokevirtual 72, 3) := by decide +kernel
theorem dX2_read_33 : decode cX2_read 33 = .ok (.aload_n 0, 1) := by decide +kernel
theorem dX2_read_34 : decode cX2_read 34 = .ok (.invokevirtual 75, 3) := by decide +kernel
theorem dX2_read_37 : decode cX2_read 37 = .ok (.aload_n 0, 1) := by decide +kernel
theorem dX2_read_38 : decode cX2_read 38 = .ok (.invokevirtual 41, 3) := by decide +kernel
theorem dX2_read_41 : decode cX2_read 41 = .ok (.iconst (-1), 1) := by decide +kernel
theorem dX2_read_42 : decode cX2_read 42 = .ok (.if_icmp .ne (-9), 3) := by decide +kernel
theorem dX2_read_45 : decode cX2_read 45 = .ok (.iconst 0, 1) := by decide +kernel
theorem dX2_read_46 : decode cX2_read 46 = .ok (.istore_n 3, 1) := by decide +kernel
theorem dX2_read_47 : decode cX2_read 47 = .ok (.iload_n 3, 1) := by decide +kernel
theorem dX2_read_48 : decode cX2_read 48 = .ok (.aload_n 0, 1) := by decide +kernel
theorem dX2_read_49 : decode cX2_read 49 = .ok (.getfield 20, 3) := by decide +kernel
theorem dX2_read_52 : decode cX2_read 52 = .ok (.invokevirtual 78, 3) := by decide +kernel
theorem dX2_read_55 : decode cX2_read 55 = .ok (.if_icmp .ge 76, 3) := by decide +kernel
theorem dX2_read_58 : decode cX2_read 58 = .ok (.aload_n 0, 1) := by decide +kernel
theorem dX2_read_59 : decode cX2_read 59 = .ok (.getfield 53, 3) := by decide +kernel
theorem dX2_read_62 : decode cX2_read 62 = .ok (.aload_n 0, 1) := by decide +kernel
theorem dX2_read_63 : decode cX2_read 63 = .ok (.getfield 20, 3) := by decide +kernel
theorem dX2_read_66 : decode cX2_read 66 = .ok (.iload_n 3, 1) := by decide +kernel
theorem dX2_read_67 : decode cX2_read 67 = .ok (.invokevirtual 80, 3) := by decide +kernel
theorem dX2_read_70 : decode cX2_read 70 = .ok (.checkcast 62, 3) := by decide +kernel
theorem dX2_read_73 : decode cX2_read 73 = .ok (.getfield 84, 3) := by decide +kernel
theorem dX2_read_76 : decode cX2_read 76 = .ok (.invokevirtual 87, 3) := by decide +kernel
theorem dX2_read_79 : decode cX2_read 79 = .ok (.istore 4, 2) := by decide +kernel
theorem dX2_read_81 : decode cX2_read 81 = .ok (.iload 4, 2) := by decide +kernel
theorem dX2_read_83 : decode cX2_read 83 = .ok (.iconst (-1), 1) := by decide +kernel
theorem dX2_read_84 : decode cX2_read 84 = .ok (.if_icmp .eq 22, 3) := by decide +kernel
theorem dX2_read_87 : decode cX2_read 87 = .ok (.aload_n 0, 1) := by decide +kernel
theorem dX2_read_88 : decode cX2_read 88 = .ok (.getfield 53, 3) := by decide +kernel
theorem dX2_read_91 : decode cX2_read 91 = .ok (.getfield 91, 3) := by decide +kernel
theorem dX2_read_94 : decode cX2_read 94 = .ok (.iload 4, 2) := by decide +kernel
theorem dX2_read_96 : decode cX2_read 96 = .ok (.iaload, 1) := by decide +kernel
theorem dX2_read_97 : decode cX2_read 97 = .ok (.aload_n 0, 1) := by decide +kernel
theorem dX2_read_98 : decode cX2_read 98 = .ok (.getfield 24, 3) := by decide +kernel
theorem dX2_read_101 : decode cX2_read 101 = .ok (.iload_n 3, 1) := by decide +kernel
theorem dX2_read_102 : decode cX2_read 102 = .ok (.iaload, 1) := by decide +kernel
theorem dX2_read_103 : decode cX2_read 103 = .ok (.if_icmp .eq 22, 3) := by decide +kernel
theorem dX2_read_106 : decode cX2_read 106 = .ok (.aload_n 0, 1) := by decide +kernel
theorem dX2_read_107 : decode cX2_read 107 = .ok (.aload_n 0, 1) := by decide +kernel
theorem dX2_read_108 : decode cX2_read 108 = .ok (.getfield 20, 3) := by decide +kernel
theorem dX2_read_111 : decode cX2_read 111 = .ok (.iload_n 3, 1) := by decide +kernel
theorem dX2_read_112 : decode cX2_read 112 = .ok (.invokevirtual 80, 3) := by decide +kernel
theorem dX2_read_115 : decode cX2_read 115 = .ok (.checkcast 62, 3) := by decide +kernel
theorem dX2_read_118 : decode cX2_read 118 = .ok (.getfield 94, 3) := by decide +kernel
theorem dX2_read_121 : decode cX2_read 121 = .ok (.invokevirtual 49, 3) := by decide +kernel
theorem dX2_read_124 : decode cX2_read 124 = .ok (.athrow, 1) := by decide +kernel
theorem dX2_read_125 : decode cX2_read 125 = .ok (.iinc 3 1, 3) := by decide +kernel
theorem dX2_read_128 : decode cX2_read 128 = .ok (.goto (-81), 3) := by decide +kernel
theorem dX2_read_131 : decode cX2_read 131 = .ok (.aload_n 0, 1) := by decide +kernel
theorem dX2_read_132 : decode cX2_read 132 = .ok (.iconst (-1), 1) := by decide +kernel
theorem dX2_read_133 : decode cX2_read 133 = .ok (.putfield 9, 3) := by decide +kernel
theorem dX2_read_136 : decode cX2_read 136 = .ok (.aload_n 0, 1) := by decide +kernel
theorem dX2_read_137 : decode cX2_read 137 = .ok (.invokevirtual 95, 3) := by decide +kernel
theorem dX2_read_140 : decode cX2_read 140 = .ok (.areturn, 1) := by decide +kernel
set_option maxHeartbeats 4000000 in
theorem WfX2_read_at47 {Γ : GT} : ∀ (n : Nat) {x0 : Nat} {x3 : Int32} {σ : CS} {zz : Nat ⊕ Option Nat} {σz : CS} {cz nz : Nat} (h : fX2_read_at47 n x0 x3 σ = some (zz, σz, cz, nz)), Ex Γ JX2_read 333 47 [(0, .ref x0), (3, .int x3)] [] σ cz nz ((toQ zz), σz) := by
  intro n
  induction n with
  | zero => intro x0 x3 σ zz σz cz nz h; cases h
  | succ n ih =>
    intro x0 x3 σ zz σz cz nz h
    rw [fX2_read_at47] at h
    refine Ex_iload_n dX2_read_47 rfl rfl ?_
    refine Ex_aload_n dX2_read_48 rfl rfl ?_
    replace h := chk_some h
    obtain ⟨ht38, h⟩ := h
    refine Ex_getR (g := 105) (by exact tagO (tg_eq ht38) FO_X2_20_2) rfl (by decide) dX2_read_49 ?_
    replace h := drf_some h
    obtain ⟨a39, ha40, h⟩ := h
    rw [ha40]
    replace h := chk_some h
    obtain ⟨ht41, h⟩ := h
    replace h := cbn_some h
    obtain ⟨r42, s43, c44, n45, c46, n47, hc48, h, rfl, rfl⟩ := h
    refine Ex_callVi (r := (RJ2, TJ2, 3)) (C_J2_size hc48) CV_X2_78 (tg_eq ht41) rfl (by decide) rfl rfl (Nat.le_of_ble_eq_true rfl) dX2_read_52 ?_
    refine Ex_icmp_ge (tgt := 131) dX2_read_55 (by decide) (fun cc142 => ?_) (fun cc142 => ?_)
    · replace h := if_t h cc142
      refine Ex_aload_n dX2_read_131 rfl rfl ?_
      refine Ex_iconst (v := -1) dX2_read_132 (by decide) ?_
      replace h := chk_some h
      obtain ⟨ht49, h⟩ := h
      refine Ex_putI (g := 103) (by exact tagW (tg_eq ht49) FW_X2_9_2) rfl rfl rfl dX2_read_133 ?_
      refine Ex_aload_n dX2_read_136 rfl rfl ?_
      replace h := cbn_some h
      obtain ⟨r50, s51, c52, n53, c54, n55, hc56, h, rfl, rfl⟩ := h
      refine Ex_callVq (r := (RX2, TX2, 7)) (C_X2_resolved hc56) CV_X2_95 (tg_eq ht49) rfl (by decide) rfl rfl (Nat.le_of_ble_eq_true rfl) dX2_read_137 ?_
      cases h
      exact Ex_areturn (r := _) rfl (Or.inl ⟨_, rfl⟩) dX2_read_140
    · replace h := if_f h cc142
      refine Ex_aload_n dX2_read_58 rfl rfl ?_
      replace h := chk_some h
      obtain ⟨ht57, h⟩ := h
      refine Ex_getR (g := 104) (by exact tagO (tg_eq ht57) FO_X2_53_2) rfl (by decide) dX2_read_59 ?_
      refine Ex_aload_n dX2_read_62 rfl rfl ?_
      refine Ex_getR (g := 105) (by exact tagO (tg_eq ht57) FO_X2_20_2) rfl (by decide) dX2_read_63 ?_
      refine Ex_iload_n dX2_read_66 rfl rfl ?_
      replace h := drf_some h
      obtain ⟨a58, ha59, h⟩ := h
      rw [ha59]
      replace h := chk_some h
      obtain ⟨ht60, h⟩ := h
      replace h := cbn_some h
      obtain ⟨r61, s62, c63, n64, c65, n66, hc67, h, rfl, rfl⟩ := h
      refine Ex_callVq (r := (RJ2, TJ2, 3)) (C_J2_get hc67) CV_X2_80 (tg_eq ht60) rfl (by decide) rfl rfl (by simp only [List.map_cons, List.map_nil, va_cat]; exact Nat.le_of_ble_eq_true rfl) dX2_read_67 ?_
      replace h := drf_some h
      obtain ⟨a68, ha69, h⟩ := h
      subst ha69
      replace h := chk_some h
      obtain ⟨ht70, h⟩ := h
      refine Ex_castS (ci := 3) (tg_eq ht70) rfl q1046 dX2_read_70 ?_
      refine Ex_getI (g := 301) (by exact tagO (tg_eq ht70) FO_X2_84_4) rfl dX2_read_73 ?_
      replace h := drf_some h
      obtain ⟨a71, ha72, h⟩ := h
      rw [ha72]
      replace h := chk_some h
      obtain ⟨ht73, h⟩ := h
      replace h := cbn_some h
      obtain ⟨r74, s75, c76, n77, c78, n79, hc80, h, rfl, rfl⟩ := h
      refine Ex_callVi (r := (RX8, TX8, 6)) (C_X8_find hc80) CV_X2_87 (tg_eq ht73) rfl (by decide) rfl rfl (Nat.le_of_ble_eq_true rfl) dX2_read_76 ?_
      refine Ex_istore dX2_read_79 (by decide) ?_
      refine Ex_iload dX2_read_81 rfl ?_
      refine Ex_iconst (v := -1) dX2_read_83 (by decide) ?_
      refine Ex_icmp_eq (tgt := 106) dX2_read_84 (by decide) (fun cc141 => ?_) (fun cc141 => ?_)
      · replace h := if_t h cc141
        refine Ex_aload_n dX2_read_106 rfl rfl ?_
        refine Ex_aload_n dX2_read_107 rfl rfl ?_
        replace h := chk_some h
        obtain ⟨ht81, h⟩ := h
        refine Ex_getR (g := 105) (by exact tagO (tg_eq ht81) FO_X2_20_2) rfl (by decide) dX2_read_108 ?_
        refine Ex_iload_n dX2_read_111 rfl rfl ?_
        replace h := drf_some h
        obtain ⟨a82, ha83, h⟩ := h
        rw [ha83]
        replace h := chk_some h
        obtain ⟨ht84, h⟩ := h
        replace h := cbn_some h
        obtain ⟨r85, s86, c87, n88, c89, n90, hc91, h, rfl, rfl⟩ := h
        refine Ex_callVq (r := (RJ2, TJ2, 3)) (C_J2_get hc91) CV_X2_80 (tg_eq ht84) rfl (by decide) rfl rfl (Nat.le_of_ble_eq_true rfl) dX2_read_112 ?_
        replace h := drf_some h
        obtain ⟨a92, ha93, h⟩ := h
        subst ha93
        replace h := chk_some h
        obtain ⟨ht94, h⟩ := h
        refine Ex_castS (ci := 3) (tg_eq ht94) rfl q1046 dX2_read_115 ?_
        refine Ex_getI (g := 302) (by exact tagO (tg_eq ht94) FO_X2_94_4) rfl dX2_read_118 ?_
        replace h := chk_some h
        obtain ⟨ht95, h⟩ := h
        replace h := cbn_some h
        obtain ⟨r96, s97, c98, n99, c100, n101, hc102, h, rfl, rfl⟩ := h
        refine Ex_callVq (r := (RX2, TX2, 7)) (C_X2_wrong hc102) CV_X2_49 (tg_eq ht95) rfl (by decide) rfl rfl (Nat.le_of_ble_eq_true rfl) dX2_read_121 ?_
        replace h := drf_some h
        obtain ⟨a103, ha104, h⟩ := h
        subst ha104
        cases h
        exact Ex_athrow dX2_read_124
      · replace h := if_f h cc141
        refine Ex_aload_n dX2_read_87 rfl rfl ?_
        replace h := chk_some h
        obtain ⟨ht105, h⟩ := h
        refine Ex_getR (g := 104) (by exact tagO (tg_eq ht105) FO_X2_53_2) rfl (by decide) dX2_read_88 ?_
        replace h := drf_some h
        obtain ⟨a106, ha107, h⟩ := h
        rw [ha107]
        replace h := chk_some h
        obtain ⟨ht108, h⟩ := h
        refine Ex_getR (g := 202) (by exact tagO (tg_eq ht108) FO_X2_91_3) rfl (by decide) dX2_read_91 ?_
        refine Ex_iload dX2_read_94 rfl ?_
        replace h := drf_some h
        obtain ⟨a109, ha110, h⟩ := h
        rw [ha110]
        replace h := chk_some h
        obtain ⟨ht111, h⟩ := h
        replace h := chk_some h
        obtain ⟨hb112, h⟩ := h
        refine Ex_iaload (tg_eq ht111) hb112 dX2_read_96 ?_
        refine Ex_aload_n dX2_read_97 rfl rfl ?_
        refine Ex_getR (g := 106) (by exact tagO (tg_eq ht105) FO_X2_24_2) rfl (by decide) dX2_read_98 ?_
        refine Ex_iload_n dX2_read_101 rfl rfl ?_
        replace h := drf_some h
        obtain ⟨a113, ha114, h⟩ := h
        rw [ha114]
        replace h := chk_some h
        obtain ⟨ht115, h⟩ := h
        replace h := chk_some h
        obtain ⟨hb116, h⟩ := h
        refine Ex_iaload (tg_eq ht115) hb116 dX2_read_102 ?_
        refine Ex_icmp_eq (tgt := 125) dX2_read_103 (by decide) (fun cc140 => ?_) (fun cc140 => ?_)
        · replace h := if_t h cc140
          refine Ex_iinc (v := 1) dX2_read_125 rfl (by decide) (by decide) ?_
          refine Ex_goto (tgt := 47) dX2_read_128 (by decide) ?_
          exact (ih h).to rfl
        · replace h := if_f h cc140
          refine Ex_aload_n dX2_read_106 rfl rfl ?_
          refine Ex_aload_n dX2_read_107 rfl rfl ?_
          refine Ex_getR (g := 105) (by exact tagO (tg_eq ht105) FO_X2_20_2) rfl (by decide) dX2_read_108 ?_
          refine Ex_iload_n dX2_read_111 rfl rfl ?_
          replace h := drf_some h
          obtain ⟨a117, ha118, h⟩ := h
          rw [ha118]
          replace h := chk_some h
          obtain ⟨ht119, h⟩ := h
          replace h := cbn_some h
          obtain ⟨r120, s121, c122, n123, c124, n125, hc126, h, rfl, rfl⟩ := h
          refine Ex_callVq (r := (RJ2, TJ2, 3)) (C_J2_get hc126) CV_X2_80 (tg_eq ht119) rfl (by decide) rfl rfl (Nat.le_of_ble_eq_true rfl) dX2_read_112 ?_
          replace h := drf_some h
          obtain ⟨a127, ha128, h⟩ := h
          subst ha128
          replace h := chk_some h
          obtain ⟨ht129, h⟩ := h
          refine Ex_castS (ci := 3) (tg_eq ht129) rfl q1046 dX2_read_115 ?_
          refine Ex_getI (g := 302) (by exact tagO (tg_eq ht129) FO_X2_94_4) rfl dX2_read_118 ?_
          replace h := chk_some h
          obtain ⟨ht130, h⟩ := h
          replace h := cbn_some h
          obtain ⟨r131, s132, c133, n134, c135, n136, hc137, h, rfl, rfl⟩ := h
          refine Ex_callVq (r := (RX2, TX2, 7)) (C_X2_wrong hc137) CV_X2_49 (tg_eq ht130) rfl (by decide) rfl rfl (Nat.le_of_ble_eq_true rfl) dX2_read_121 ?_
          replace h := drf_some h
          obtain ⟨a138, ha139, h⟩ := h
          subst ha139
          cases h
          exact Ex_athrow dX2_read_124
set_option maxHeartbeats 4000000 in
theorem WfX2_read_at33 {Γ : GT} : ∀ (n : Nat) {x0 : Nat} {σ : CS} {zz : Nat ⊕ Option Nat} {σz : CS} {cz nz : Nat} (h : fX2_read_at33 n x0 σ = some (zz, σz, cz, nz)), Ex Γ JX2_read 333 33 [(0, .ref x0)] [] σ cz nz ((toQ zz), σz) := by
  intro n
  induction n with
  | zero => intro x0 σ zz σz cz nz h; cases h
  | succ n ih =>
    intro x0 σ zz σz cz nz h
    rw [fX2_read_at33] at h
    refine Ex_aload_n dX2_read_33 rfl rfl ?_
    replace h := chk_some h
    obtain ⟨ht22, h⟩ := h
    replace h := cbt_some h
    rcases h with ⟨r23, hc29, rfl⟩ | ⟨r23, s24, c25, n26, c27, n28, hc29, h, rfl, rfl⟩
    · exact Ex_callVT (r := (RX2, TX2, 7)) (C_X2_procedureComes hc29) CV_X2_75 (tg_eq ht22) rfl (by decide) rfl rfl (Nat.le_of_ble_eq_true rfl) dX2_read_34
    refine Ex_callVv (r := (RX2, TX2, 7)) (C_X2_procedureComes hc29) CV_X2_75 (tg_eq ht22) rfl (by decide) rfl rfl (Nat.le_of_ble_eq_true rfl) dX2_read_34 ?_
    refine Ex_aload_n dX2_read_37 rfl rfl ?_
    replace h := chk_some h
    obtain ⟨ht30, h⟩ := h
    replace h := cbn_some h
    obtain ⟨r31, s32, c33, n34, c35, n36, hc37, h, rfl, rfl⟩ := h
    refine Ex_callVi (r := (RX2, TX2, 7)) (C_X2_here hc37) CV_X2_41 (tg_eq ht30) rfl (by decide) rfl rfl (Nat.le_of_ble_eq_true rfl) dX2_read_38 ?_
    refine Ex_iconst (v := -1) dX2_read_41 (by decide) ?_
    refine Ex_icmp_ne (tgt := 33) dX2_read_42 (by decide) (fun cc143 => ?_) (fun cc143 => ?_)
    · replace h := if_f h cc143
      exact (ih h).to rfl
    · replace h := if_t h cc143
      refine Ex_iconst (v := 0) dX2_read_45 (by decide) ?_
      refine Ex_istore_n dX2_read_46 rfl (by decide) ?_
      exact (WfX2_read_at47 _ h).to rfl
set_option maxHeartbeats 4000000 in
theorem C_X2_read {Γ : GT} {x0 : Nat} {x1 : Nat} {x2 : Int32} {σ : CS} {zz : Nat ⊕ Option Nat} {σz : CS} {cz nz : Nat} (h : fX2_read x0 x1 x2 σ = some (zz, σz, cz, nz)) : CM Γ JX2_read 333 [.ref x0, .ref x1, .int x2] σ cz nz ((toQ zz), σz) := by
  refine CM.of (by decide +kernel) (Nat.le_of_ble_eq_true rfl) ?_
  unfold fX2_read at h
  show Ex Γ JX2_read 333 0 [(0, .ref x0), (1, .ref x1), (2, .int x2)] [] σ cz nz _
  refine Ex_aload_n dX2_read_0 rfl rfl ?_
  refine Ex_aload_n dX2_read_1 rfl rfl ?_
  replace h := chk_some h
  obtain ⟨ht1, h⟩ := h
  refine Ex_putR (g := 100) (v := (some x1)) (by exact tagW (tg_eq ht1) FW_X2_37_2) rfl (by decide) rfl rfl dX2_read_2 ?_
  refine Ex_aload_n dX2_read_5 rfl rfl ?_
  refine Ex_iload_n dX2_read_6 rfl rfl ?_
  refine Ex_putI (g := 101) (by exact tagW (tg_eq ht1) FW_X2_34_2) rfl rfl rfl dX2_read_7 ?_
  refine Ex_aload_n dX2_read_10 rfl rfl ?_
  refine Ex_iconst (v := 0) dX2_read_11 (by decide) ?_
  refine Ex_putI (g := 102) (by exact tagW (tg_eq ht1) FW_X2_31_2) rfl rfl rfl dX2_read_12 ?_
  refine Ex_aload_n dX2_read_15 rfl rfl ?_
  replace h := cal_some h
  obtain ⟨c2, n3, h, rfl, rfl⟩ := h
  refine Ex_new (C := RX8) (N := 6) K_X8 (Or.inl rfl) q913 q914 q94 (by decide) dX2_read_16 ?_
  refine Ex_dup dX2_read_19 rfl ?_
  replace h := cbn_some h
  obtain ⟨r4, s5, c6, n7, c8, n9, hc10, h, rfl, rfl⟩ := h
  refine Ex_callIN (C_X8_init hc10) CN_X2_71 (by decide) rfl rfl (Nat.le_of_ble_eq_true rfl) dX2_read_20 ?_
  replace h := chk_some h
  obtain ⟨ht11, h⟩ := h
  refine Ex_putR (g := 104) (v := (some (csz (setI (setI (setR σ 100 x0 (some x1)) 101 x0 x2) 102 x0 (0 : Int32))))) (by exact tagW (tg_eq ht11) FW_X2_53_2) rfl (by decide) rfl rfl dX2_read_23 ?_
  refine Ex_aload_n dX2_read_26 rfl rfl ?_
  refine Ex_getR (g := 105) (by exact tagO (tg_eq ht11) FO_X2_20_2) rfl (by decide) dX2_read_27 ?_
  replace h := drf_some h
  obtain ⟨a12, ha13, h⟩ := h
  rw [ha13]
  replace h := chk_some h
  obtain ⟨ht14, h⟩ := h
  replace h := cbn_some h
  obtain ⟨r15, s16, c17, n18, c19, n20, hc21, h, rfl, rfl⟩ := h
  refine Ex_callVv (r := (RJ2, TJ2, 3)) (C_J2_clear hc21) CV_X2_72 (tg_eq ht14) rfl (by decide) rfl rfl (Nat.le_of_ble_eq_true rfl) dX2_read_30 ?_
  exact (WfX2_read_at33 _ h).to rfl
theorem dX1_compile_0 : decode cX1_compile 0 = .ok (.aload_n 0, 1) := by decide +kernel
theorem dX1_compile_1 : decode cX1_compile 1 = .ok (.getfield 38, 3) := by decide +kernel
theorem dX1_compile_4 : decode cX1_compile 4 = .ok (.istore_n 1, 1) := by decide +kernel
theorem dX1_compile_5 : decode cX1_compile 5 = .ok (.aload_n 0, 1) := by decide +kernel
theorem dX1_compile_6 : decode cX1_compile 6 = .ok (.iconst 0, 1) := by decide +kernel
theorem dX1_compile_7 : decode cX1_compile 7 = .ok (.putfield 38, 3) := by decide +kernel
theorem dX1_compile_10 : decode cX1_compile 10 = .ok (.aload_n 0, 1) := by decide +kernel
theorem dX1_compile_11 : decode cX1_compile 11 = .ok (.aload_n 0, 1) := by decide +kernel
theorem dX1_compile_12 : decode cX1_compile 12 = .ok (.getfield 16, 3) := by decide +kernel
theorem dX1_compile_15 : decode cX1_compile 15 = .ok (.aload_n 0, 1) := by decide +kernel
theorem dX1_compile_16 : decode cX1_compile 16 = .ok (.getfield 9, 3) := by decide +kernel
theorem dX1_compile_19 : decode cX1_compile 19 = .ok (.iload_n 1, 1) := by decide +kernel
theorem dX1_compile_20 : decode cX1_compile 20 = .ok (.invokevirtual 48, 3) := by decide +kernel
theorem dX1_compile_23 : decode cX1_compile 23 = .ok (.putfield 52, 3) := by decide +kernel
theorem dX1_compile_26 : decode cX1_compile 26 = .ok (.aload_n 0, 1) := by decide +kernel
theorem dX1_compile_27 : decode cX1_compile 27 = .ok (.getfield 27, 3) := by decide +kernel
theorem dX1_compile_30 : decode cX1_compile 30 = .ok (.iconst 0, 1) := by decide +kernel
theorem dX1_compile_31 : decode cX1_compile 31 = .ok (.putfield 56, 3) := by decide +kernel
theorem dX1_compile_34 : decode cX1_compile 34 = .ok (.aload_n 0, 1) := by decide +kernel
theorem dX1_compile_35 : decode cX1_compile 35 = .ok (.getfield 34, 3) := by decide +kernel
theorem dX1_compile_38 : decode cX1_compile 38 = .ok (.iconst 0, 1) := by decide +kernel
theorem dX1_compile_39 : decode cX1_compile 39 = .ok (.putfield 60, 3) := by decide +kernel
theorem dX1_compile_42 : decode cX1_compile 42 = .ok (.iconst 0, 1) := by decide +kernel
theorem dX1_compile_43 : decode cX1_compile 43 = .ok (.istore_n 2, 1) := by decide +kernel
theorem dX1_compile_44 : decode cX1_compile 44 = .ok (.iload_n 2, 1) := by decide +kernel
theorem dX1_compile_45 : decode cX1_compile 45 = .ok (.bipush 32, 2) := by decide +kernel
theorem dX1_compile_47 : decode cX1_compile 47 = .ok (.if_icmp .ge 16, 3) := by decide +kernel
theorem dX1_compile_50 : decode cX1_compile 50 = .ok (.aload_n 0, 1) := by decide +kernel
theorem dX1_compile_51 : decode cX1_compile 51 = .ok (.getfield 20, 3) := by decide +kernel
theorem dX1_compile_54 : decode cX1_compile 54 = .ok (.iload_n 2, 1) := by decide +kernel
theorem dX1_compile_55 : decode cX1_compile 55 = .ok (.iconst 0, 1) := by decide +kernel
theorem dX1_compile_56 : decode cX1_compile 56 = .ok (.iastore, 1) := by decide +kernel
theorem dX1_compile_57 : decode cX1_compile 57 = .ok (.iinc 2 1, 3) := by decide +kernel
theorem dX1_compile_60 : decode cX1_compile 60 = .ok (.goto (-16), 3) := by decide +kernel
theorem dX1_compile_63 : decode cX1_compile 63 = .ok (.aload_n 0, 1) := by decide +kernel
theorem dX1_compile_64 : decode cX1_compile 64 = .ok (.getfield 52, 3) := by decide +kernel
theorem dX1_compile_67 : decode cX1_compile 67 = .ok (.getfield 61, 3) := by decide +kernel
theorem dX1_compile_70 : decode cX1_compile 70 = .ok (.invokevirtual 67, 3) := by decide +kernel
theorem dX1_compile_73 : decode cX1_compile 73 = .ok (.ireturn, 1) := by decide +kernel
set_option maxHeartbeats 4000000 in
theorem WfX1_compile_at44 {Γ : GT} : ∀ (n : Nat) {x0 : Nat} {x2 : Int32} {σ : CS} {zz : Nat ⊕ Int32} {σz : CS} {cz nz : Nat} (h : fX1_compile_at44 n x0 x2 σ = some (zz, σz, cz, nz)), Ex Γ JX1_compile 334 44 [(0, .ref x0), (2, .int x2)] [] σ cz nz ((toI zz), σz) := by
  intro n
  induction n with
  | zero => intro x0 x2 σ zz σz cz nz h; cases h
  | succ n ih =>
    intro x0 x2 σ zz σz cz nz h
    rw [fX1_compile_at44] at h
    refine Ex_iload_n dX1_compile_44 rfl rfl ?_
    refine Ex_bipush (v := 32) dX1_compile_45 (by decide) ?_
    refine Ex_icmp_ge (tgt := 63) dX1_compile_47 (by decide) (fun cc40 => ?_) (fun cc40 => ?_)
    · replace h := if_t h cc40
      refine Ex_aload_n dX1_compile_63 rfl rfl ?_
      replace h := chk_some h
      obtain ⟨ht21, h⟩ := h
      refine Ex_getR (g := 4) (by exact tagO (tg_eq ht21) FO_X1_52_1) rfl (by decide) dX1_compile_64 ?_
      replace h := drf_some h
      obtain ⟨a22, ha23, h⟩ := h
      rw [ha23]
      replace h := chk_some h
      obtain ⟨ht24, h⟩ := h
      refine Ex_getR (g := 200) (by exact tagO (tg_eq ht24) FO_X1_61_3) rfl (by decide) dX1_compile_67 ?_
      replace h := drf_some h
      obtain ⟨a25, ha26, h⟩ := h
      rw [ha26]
      replace h := chk_some h
      obtain ⟨ht27, h⟩ := h
      replace h := cbn_some h
      obtain ⟨r28, s29, c30, n31, c32, n33, hc34, h, rfl, rfl⟩ := h
      refine Ex_callVi (r := (RJ2, TJ2, 3)) (C_J2_size hc34) CV_X1_67 (tg_eq ht27) rfl (by decide) rfl rfl (Nat.le_of_ble_eq_true rfl) dX1_compile_70 ?_
      cases h
      exact Ex_ireturn rfl dX1_compile_73
    · replace h := if_f h cc40
      refine Ex_aload_n dX1_compile_50 rfl rfl ?_
      replace h := chk_some h
      obtain ⟨ht35, h⟩ := h
      refine Ex_getR (g := 3) (by exact tagO (tg_eq ht35) FO_X1_20_1) rfl (by decide) dX1_compile_51 ?_
      refine Ex_iload_n dX1_compile_54 rfl rfl ?_
      refine Ex_iconst (v := 0) dX1_compile_55 (by decide) ?_
      replace h := drf_some h
      obtain ⟨a36, ha37, h⟩ := h
      rw [ha37]
      replace h := chk_some h
      obtain ⟨ht38, h⟩ := h
      replace h := chk_some h
      obtain ⟨hb39, h⟩ := h
      refine Ex_iastore (tg_eq ht38) hb39 dX1_compile_56 ?_
      refine Ex_iinc (v := 1) dX1_compile_57 rfl (by decide) (by decide) ?_
      refine Ex_goto (tgt := 44) dX1_compile_60 (by decide) ?_
      exact (ih h).to rfl
set_option maxHeartbeats 4000000 in
theorem C_X1_compile {Γ : GT} {x0 : Nat} {σ : CS} {zz : Nat ⊕ Int32} {σz : CS} {cz nz : Nat} (h : fX1_compile x0 σ = some (zz, σz, cz, nz)) : CM Γ JX1_compile 334 [.ref x0] σ cz nz ((toI zz), σz) := by
  refine CM.of (by decide +kernel) (Nat.le_of_ble_eq_true rfl) ?_
  unfold fX1_compile at h
  show Ex Γ JX1_compile 334 0 [(0, .ref x0)] [] σ cz nz _
  refine Ex_aload_n dX1_compile_0 rfl rfl ?_
  replace h := chk_some h
  obtain ⟨ht1, h⟩ := h
  refine Ex_getI (g := 1) (by exact tagO (tg_eq ht1) FO_X1_38_1) rfl dX1_compile_1 ?_
  refine Ex_istore_n dX1_compile_4 rfl (by decide) ?_
  refine Ex_aload_n dX1_compile_5 rfl rfl ?_
  refine Ex_iconst (v := 0) dX1_compile_6 (by decide) ?_
  refine Ex_putI (g := 1) (by exact tagW (tg_eq ht1) FW_X1_38_1) rfl rfl rfl dX1_compile_7 ?_
  refine Ex_aload_n dX1_compile_10 rfl rfl ?_
  refine Ex_aload_n dX1_compile_11 rfl rfl ?_
  refine Ex_getR (g := 2) (by exact tagO (tg_eq ht1) FO_X1_16_1) rfl (by decide) dX1_compile_12 ?_
  refine Ex_aload_n dX1_compile_15 rfl rfl ?_
  refine Ex_getR (g := 0) (by exact tagO (tg_eq ht1) FO_X1_9_1) rfl (by decide) dX1_compile_16 ?_
  refine Ex_iload_n dX1_compile_19 rfl rfl ?_
  replace h := drf_some h
  obtain ⟨a2, ha3, h⟩ := h
  rw [ha3]
  replace h := drf_some h
  obtain ⟨a4, ha5, h⟩ := h
  rw [ha5]
  replace h := chk_some h
  obtain ⟨ht6, h⟩ := h
  replace h := cbt_some h
  rcases h with ⟨r7, hc13, rfl⟩ | ⟨r7, s8, c9, n10, c11, n12, hc13, h, rfl, rfl⟩
  · exact Ex_callVT (r := (RX2, TX2, 7)) (C_X2_read hc13) CV_X1_48 (tg_eq ht6) rfl (by decide) rfl rfl (Nat.le_of_ble_eq_true rfl) dX1_compile_20
  refine Ex_callVq (r := (RX2, TX2, 7)) (C_X2_read hc13) CV_X1_48 (tg_eq ht6) rfl (by decide) rfl rfl (Nat.le_of_ble_eq_true rfl) dX1_compile_20 ?_
  replace h := chk_some h
  obtain ⟨ht14, h⟩ := h
  refine Ex_putR (g := 4) (v := r7) (by exact tagW (tg_eq ht14) FW_X1_52_1) rfl (by decide) (by cases r7 <;> rfl) (by cases r7 <;> rfl) dX1_compile_23 ?_
  refine Ex_aload_n dX1_compile_26 rfl rfl ?_
  refine Ex_getR (g := 5) (by exact tagO (tg_eq ht14) FO_X1_27_1) rfl (by decide) dX1_compile_27 ?_
  refine Ex_iconst (v := 0) dX1_compile_30 (by decide) ?_
  replace h := drf_some h
  obtain ⟨a15, ha16, h⟩ := h
  rw [ha16]
  replace h := chk_some h
  obtain ⟨ht17, h⟩ := h
  refine Ex_putI (g := 1005) (by exact tagW (tg_eq ht17) FW_X1_56_5) rfl rfl rfl dX1_compile_31 ?_
  refine Ex_aload_n dX1_compile_34 rfl rfl ?_
  refine Ex_getR (g := 6) (by exact tagO (tg_eq ht14) FO_X1_34_1) rfl (by decide) dX1_compile_35 ?_
  refine Ex_iconst (v := 0) dX1_compile_38 (by decide) ?_
  replace h := drf_some h
  obtain ⟨a18, ha19, h⟩ := h
  rw [ha19]
  replace h := chk_some h
  obtain ⟨ht20, h⟩ := h
  refine Ex_putI (g := 1005) (by exact tagW (tg_eq ht20) FW_X1_60_7) rfl rfl rfl dX1_compile_39 ?_
  refine Ex_iconst (v := 0) dX1_compile_42 (by decide) ?_
  refine Ex_istore_n dX1_compile_43 rfl (by decide) ?_
  exact (WfX1_compile_at44 _ h).to rfl
