set_option maxRecDepth 100000
theorem dX7_move_0 : decode cX7_move 0 = .ok (.aload_n 0, 1) := by decide +kernel
theorem dX7_move_1 : decode cX7_move 1 = .ok (.aload_n 0, 1) := by decide +kernel
theorem dX7_move_2 : decode cX7_move 2 = .ok (.getfield 290, 3) := by decide +kernel
theorem dX7_move_5 : decode cX7_move 5 = .ok (.ifCond .eq 10, 3) := by decide +kernel
theorem dX7_move_8 : decode cX7_move 8 = .ok (.aload_n 0, 1) := by decide +kernel
theorem dX7_move_9 : decode cX7_move 9 = .ok (.getfield 381, 3) := by decide +kernel
theorem dX7_move_12 : decode cX7_move 12 = .ok (.ifCond .eq 7, 3) := by decide +kernel
theorem dX7_move_15 : decode cX7_move 15 = .ok (.iconst 1, 1) := by decide +kernel
theorem dX7_move_16 : decode cX7_move 16 = .ok (.goto 36, 3) := by decide +kernel
theorem dX7_move_19 : decode cX7_move 19 = .ok (.iload_n 1, 1) := by decide +kernel
theorem dX7_move_20 : decode cX7_move 20 = .ok (.ifCond .lt 11, 3) := by decide +kernel
theorem dX7_move_23 : decode cX7_move 23 = .ok (.iload_n 1, 1) := by decide +kernel
theorem dX7_move_24 : decode cX7_move 24 = .ok (.aload_n 0, 1) := by decide +kernel
theorem dX7_move_25 : decode cX7_move 25 = .ok (.getfield 384, 3) := by decide +kernel
theorem dX7_move_28 : decode cX7_move 28 = .ok (.if_icmp .lt 7, 3) := by decide +kernel
theorem dX7_move_31 : decode cX7_move 31 = .ok (.iconst 2, 1) := by decide +kernel
theorem dX7_move_32 : decode cX7_move 32 = .ok (.goto 20, 3) := by decide +kernel
theorem dX7_move_35 : decode cX7_move 35 = .ok (.iload_n 2, 1) := by decide +kernel
theorem dX7_move_36 : decode cX7_move 36 = .ok (.iconst 1, 1) := by decide +kernel
theorem dX7_move_37 : decode cX7_move 37 = .ok (.if_icmp .lt 10, 3) := by decide +kernel
theorem dX7_move_40 : decode cX7_move 40 = .ok (.iload_n 2, 1) := by decide +kernel
theorem dX7_move_41 : decode cX7_move 41 = .ok (.sipush 5000, 3) := by decide +kernel
theorem dX7_move_44 : decode cX7_move 44 = .ok (.if_icmp .le 7, 3) := by decide +kernel
theorem dX7_move_47 : decode cX7_move 47 = .ok (.iconst 3, 1) := by decide +kernel
theorem dX7_move_48 : decode cX7_move 48 = .ok (.goto 4, 3) := by decide +kernel
theorem dX7_move_51 : decode cX7_move 51 = .ok (.iconst 0, 1) := by decide +kernel
theorem dX7_move_52 : decode cX7_move 52 = .ok (.putfield 152, 3) := by decide +kernel
theorem dX7_move_55 : decode cX7_move 55 = .ok (.aload_n 0, 1) := by decide +kernel
theorem dX7_move_56 : decode cX7_move 56 = .ok (.getfield 152, 3) := by decide +kernel
theorem dX7_move_59 : decode cX7_move 59 = .ok (.ifCond .eq 5, 3) := by decide +kernel
theorem dX7_move_62 : decode cX7_move 62 = .ok (.iconst 0, 1) := by decide +kernel
theorem dX7_move_63 : decode cX7_move 63 = .ok (.ireturn, 1) := by decide +kernel
theorem dX7_move_64 : decode cX7_move 64 = .ok (.iconst 0, 1) := by decide +kernel
theorem dX7_move_65 : decode cX7_move 65 = .ok (.istore_n 3, 1) := by decide +kernel
theorem dX7_move_66 : decode cX7_move 66 = .ok (.iload_n 3, 1) := by decide +kernel
theorem dX7_move_67 : decode cX7_move 67 = .ok (.iload_n 2, 1) := by decide +kernel
theorem dX7_move_68 : decode cX7_move 68 = .ok (.if_icmp .ge 26, 3) := by decide +kernel
theorem dX7_move_71 : decode cX7_move 71 = .ok (.aload_n 0, 1) := by decide +kernel
theorem dX7_move_72 : decode cX7_move 72 = .ok (.getfield 71, 3) := by decide +kernel
theorem dX7_move_75 : decode cX7_move 75 = .ok (.iload_n 1, 1) := by decide +kernel
theorem dX7_move_76 : decode cX7_move 76 = .ok (.iaload, 1) := by decide +kernel
theorem dX7_move_77 : decode cX7_move 77 = .ok (.ifCond .le 17, 3) := by decide +kernel
theorem dX7_move_80 : decode cX7_move 80 = .ok (.aload_n 0, 1) := by decide +kernel
theorem dX7_move_81 : decode cX7_move 81 = .ok (.iload_n 1, 1) := by decide +kernel
theorem dX7_move_82 : decode cX7_move 82 = .ok (.invokevirtual 394, 3) := by decide +kernel
theorem dX7_move_85 : decode cX7_move 85 = .ok (.ifCond .eq 9, 3) := by decide +kernel
theorem dX7_move_88 : decode cX7_move 88 = .ok (.iinc 3 1, 3) := by decide +kernel
theorem dX7_move_91 : decode cX7_move 91 = .ok (.goto (-25), 3) := by decide +kernel
theorem dX7_move_94 : decode cX7_move 94 = .ok (.iload_n 3, 1) := by decide +kernel
theorem dX7_move_95 : decode cX7_move 95 = .ok (.ireturn, 1) := by decide +kernel
set_option maxHeartbeats 4000000 in
theorem Wm_move_66 {Γ : GT} {m sz : Nat} : ∀ (n : Nat) {x1 : Int32} {x2 : Int32} {x3 : Int32} {f : MF} {a : MA} {rz : Int32} {fz : MF} {az : MA} (h : m_move_66 n x1 x2 x3 f a = some (rz, fz, az)), Ex Γ JX7_move 5 66 [(0, .ref m), (1, .int x1), (2, .int x2), (3, .int x3)] [] (mixM m f a sz) 0 0 (.returned (some (.int rz)), mixM m fz az sz) := by
  intro n
  induction n with
  | zero => intro x1 x2 x3 f a rz fz az h; cases h
  | succ n ih =>
    intro x1 x2 x3 f a rz fz az h
    rw [m_move_66] at h
    refine Ex_iload_n dX7_move_66 rfl rfl ?_
    refine Ex_iload_n dX7_move_67 rfl rfl ?_
    refine Ex_icmp_ge (tgt := 94) dX7_move_68 (by decide) (fun c8 => ?_) (fun c8 => ?_)
    · have h := if_t h c8
      refine Ex_iload_n dX7_move_94 rfl rfl ?_
      cases h
      exact Ex_ireturn rfl dX7_move_95
    · have h := if_f h c8
      refine Ex_aload_n dX7_move_71 rfl rfl ?_
      refine Em_getA (j := 19) FO_X7_71 rfl rfl dX7_move_72 ?_
      refine Ex_iload_n dX7_move_75 rfl rfl ?_
      obtain ⟨hb1, h⟩ := chk_some h
      refine Em_iald (by decide) rfl hb1 dX7_move_76 ?_
      refine Ex_if_le (tgt := 94) dX7_move_77 (by decide) (fun c7 => ?_) (fun c7 => ?_)
      · have h := if_t h c7
        refine Ex_iload_n dX7_move_94 rfl rfl ?_
        cases h
        exact Ex_ireturn rfl dX7_move_95
      · have h := if_f h c7
        refine Ex_aload_n dX7_move_80 rfl rfl ?_
        refine Ex_iload_n dX7_move_81 rfl rfl ?_
        obtain ⟨r2, f3, a4, hc5, h⟩ := bnd_some h
        refine Em_callVi (C_m_stepLoose hc5) CV_X7_394 (by decide) rfl rfl (Nat.le_of_ble_eq_true rfl) dX7_move_82 ?_
        refine Ex_if_eq (tgt := 94) dX7_move_85 (by decide) (fun c6 => ?_) (fun c6 => ?_)
        · have h := if_t h c6
          refine Ex_iload_n dX7_move_94 rfl rfl ?_
          cases h
          exact Ex_ireturn rfl dX7_move_95
        · have h := if_f h c6
          refine Ex_iinc (v := 1) dX7_move_88 rfl (by decide) (by decide) ?_
          refine Ex_goto (tgt := 66) dX7_move_91 (by decide) ?_
          exact (ih h).to rfl
set_option maxHeartbeats 4000000 in
theorem Wm_move_52 {Γ : GT} {m sz : Nat} {x1 : Int32} {x2 : Int32} {y0 : Int32} {f : MF} {a : MA} {rz : Int32} {fz : MF} {az : MA} (h : m_move_52 x1 x2 y0 f a = some (rz, fz, az)) : Ex Γ JX7_move 5 52 [(0, .ref m), (1, .int x1), (2, .int x2)] [.int y0, .ref m] (mixM m f a sz) 0 0 (.returned (some (.int rz)), mixM m fz az sz) := by
  unfold m_move_52 at h
  refine Em_put FW_X7_152 rfl rfl rfl dX7_move_52 ?_
  refine Ex_aload_n dX7_move_55 rfl rfl ?_
  refine Em_get FO_X7_152 rfl dX7_move_56 ?_
  refine Ex_if_eq (tgt := 64) dX7_move_59 (by decide) (fun c9 => ?_) (fun c9 => ?_)
  · have h := if_t h c9
    refine Ex_iconst (v := 0) dX7_move_64 (by decide) ?_
    refine Ex_istore_n dX7_move_65 rfl (by decide) ?_
    exact (Wm_move_66 _ h).to rfl
  · have h := if_f h c9
    refine Ex_iconst (v := 0) dX7_move_62 (by decide) ?_
    cases h
    exact Ex_ireturn rfl dX7_move_63
set_option maxHeartbeats 4000000 in
theorem Wm_move_15 {Γ : GT} {m sz : Nat} {x1 : Int32} {x2 : Int32} {f : MF} {a : MA} {rz : Int32} {fz : MF} {az : MA} (h : m_move_15 x1 x2 f a = some (rz, fz, az)) : Ex Γ JX7_move 5 15 [(0, .ref m), (1, .int x1), (2, .int x2)] [.ref m] (mixM m f a sz) 0 0 (.returned (some (.int rz)), mixM m fz az sz) := by
  unfold m_move_15 at h
  refine Ex_iconst (v := 1) dX7_move_15 (by decide) ?_
  refine Ex_goto (tgt := 52) dX7_move_16 (by decide) ?_
  exact (Wm_move_52 h).to rfl
set_option maxHeartbeats 4000000 in
theorem Wm_move_31 {Γ : GT} {m sz : Nat} {x1 : Int32} {x2 : Int32} {f : MF} {a : MA} {rz : Int32} {fz : MF} {az : MA} (h : m_move_31 x1 x2 f a = some (rz, fz, az)) : Ex Γ JX7_move 5 31 [(0, .ref m), (1, .int x1), (2, .int x2)] [.ref m] (mixM m f a sz) 0 0 (.returned (some (.int rz)), mixM m fz az sz) := by
  unfold m_move_31 at h
  refine Ex_iconst (v := 2) dX7_move_31 (by decide) ?_
  refine Ex_goto (tgt := 52) dX7_move_32 (by decide) ?_
  exact (Wm_move_52 h).to rfl
set_option maxHeartbeats 4000000 in
theorem Wm_move_47 {Γ : GT} {m sz : Nat} {x1 : Int32} {x2 : Int32} {f : MF} {a : MA} {rz : Int32} {fz : MF} {az : MA} (h : m_move_47 x1 x2 f a = some (rz, fz, az)) : Ex Γ JX7_move 5 47 [(0, .ref m), (1, .int x1), (2, .int x2)] [.ref m] (mixM m f a sz) 0 0 (.returned (some (.int rz)), mixM m fz az sz) := by
  unfold m_move_47 at h
  refine Ex_iconst (v := 3) dX7_move_47 (by decide) ?_
  refine Ex_goto (tgt := 52) dX7_move_48 (by decide) ?_
  exact (Wm_move_52 h).to rfl
set_option maxHeartbeats 4000000 in
theorem C_m_move {Γ : GT} {m sz : Nat} {x1 : Int32} {x2 : Int32} {f : MF} {a : MA} {rz : Int32} {fz : MF} {az : MA} (h : m_move x1 x2 f a = some (rz, fz, az)) : CM Γ JX7_move 5 [.ref m, .int x1, .int x2] (mixM m f a sz) 0 0 (.returned (some (.int rz)), mixM m fz az sz) := by
  refine CM.of (by decide +kernel) (Nat.le_of_ble_eq_true rfl) ?_
  unfold m_move at h
  show Ex Γ JX7_move 5 0 [(0, .ref m), (1, .int x1), (2, .int x2)] [] (mixM m f a sz) 0 0 _
  refine Ex_aload_n dX7_move_0 rfl rfl ?_
  refine Ex_aload_n dX7_move_1 rfl rfl ?_
  refine Em_get FO_X7_290 rfl dX7_move_2 ?_
  refine Ex_if_eq (tgt := 15) dX7_move_5 (by decide) (fun c15 => ?_) (fun c15 => ?_)
  · have h := if_t h c15
    exact (Wm_move_15 h).to rfl
  · have h := if_f h c15
    refine Ex_aload_n dX7_move_8 rfl rfl ?_
    refine Em_get FO_X7_381 rfl dX7_move_9 ?_
    refine Ex_if_eq (tgt := 19) dX7_move_12 (by decide) (fun c14 => ?_) (fun c14 => ?_)
    · have h := if_t h c14
      refine Ex_iload_n dX7_move_19 rfl rfl ?_
      refine Ex_if_lt (tgt := 31) dX7_move_20 (by decide) (fun c13 => ?_) (fun c13 => ?_)
      · have h := if_t h c13
        exact (Wm_move_31 h).to rfl
      · have h := if_f h c13
        refine Ex_iload_n dX7_move_23 rfl rfl ?_
        refine Ex_aload_n dX7_move_24 rfl rfl ?_
        refine Em_get FO_X7_384 rfl dX7_move_25 ?_
        refine Ex_icmp_lt (tgt := 35) dX7_move_28 (by decide) (fun c12 => ?_) (fun c12 => ?_)
        · have h := if_t h c12
          refine Ex_iload_n dX7_move_35 rfl rfl ?_
          refine Ex_iconst (v := 1) dX7_move_36 (by decide) ?_
          refine Ex_icmp_lt (tgt := 47) dX7_move_37 (by decide) (fun c11 => ?_) (fun c11 => ?_)
          · have h := if_t h c11
            exact (Wm_move_47 h).to rfl
          · have h := if_f h c11
            refine Ex_iload_n dX7_move_40 rfl rfl ?_
            refine Ex_sipush (v := 5000) dX7_move_41 (by decide) ?_
            refine Ex_icmp_le (tgt := 51) dX7_move_44 (by decide) (fun c10 => ?_) (fun c10 => ?_)
            · have h := if_t h c10
              refine Ex_iconst (v := 0) dX7_move_51 (by decide) ?_
              exact (Wm_move_52 h).to rfl
            · have h := if_f h c10
              exact (Wm_move_47 h).to rfl
        · have h := if_f h c12
          exact (Wm_move_31 h).to rfl
    · have h := if_f h c14
      exact (Wm_move_15 h).to rfl
theorem dX7_loose_0 : decode cX7_loose 0 = .ok (.aload_n 0, 1) := by decide +kernel
theorem dX7_loose_1 : decode cX7_loose 1 = .ok (.iconst 0, 1) := by decide +kernel
theorem dX7_loose_2 : decode cX7_loose 2 = .ok (.putfield 152, 3) := by decide +kernel
theorem dX7_loose_5 : decode cX7_loose 5 = .ok (.iload_n 1, 1) := by decide +kernel
theorem dX7_loose_6 : decode cX7_loose 6 = .ok (.ifCond .lt 8, 3) := by decide +kernel
theorem dX7_loose_9 : decode cX7_loose 9 = .ok (.iload_n 1, 1) := by decide +kernel
theorem dX7_loose_10 : decode cX7_loose 10 = .ok (.iconst 4, 1) := by decide +kernel
theorem dX7_loose_11 : decode cX7_loose 11 = .ok (.if_icmp .le 5, 3) := by decide +kernel
theorem dX7_loose_14 : decode cX7_loose 14 = .ok (.iconst (-1), 1) := by decide +kernel
theorem dX7_loose_15 : decode cX7_loose 15 = .ok (.ireturn, 1) := by decide +kernel
theorem dX7_loose_16 : decode cX7_loose 16 = .ok (.aload_n 0, 1) := by decide +kernel
theorem dX7_loose_17 : decode cX7_loose 17 = .ok (.getfield 290, 3) := by decide +kernel
theorem dX7_loose_20 : decode cX7_loose 20 = .ok (.ifCond .ne 5, 3) := by decide +kernel
theorem dX7_loose_23 : decode cX7_loose 23 = .ok (.iconst 0, 1) := by decide +kernel
theorem dX7_loose_24 : decode cX7_loose 24 = .ok (.ireturn, 1) := by decide +kernel
theorem dX7_loose_25 : decode cX7_loose 25 = .ok (.iload_n 1, 1) := by decide +kernel
theorem dX7_loose_26 : decode cX7_loose 26 = .ok (.tableswitch 75 0 3 #[30, 35, 61, 68], 30) := by decide +kernel
theorem dX7_loose_56 : decode cX7_loose 56 = .ok (.aload_n 0, 1) := by decide +kernel
theorem dX7_loose_57 : decode cX7_loose 57 = .ok (.getfield 384, 3) := by decide +kernel
theorem dX7_loose_60 : decode cX7_loose 60 = .ok (.ireturn, 1) := by decide +kernel
theorem dX7_loose_61 : decode cX7_loose 61 = .ok (.aload_n 0, 1) := by decide +kernel
theorem dX7_loose_62 : decode cX7_loose 62 = .ok (.getfield 381, 3) := by decide +kernel
theorem dX7_loose_65 : decode cX7_loose 65 = .ok (.ifCond .eq 7, 3) := by decide +kernel
theorem dX7_loose_68 : decode cX7_loose 68 = .ok (.iconst 2, 1) := by decide +kernel
theorem dX7_loose_69 : decode cX7_loose 69 = .ok (.goto 17, 3) := by decide +kernel
theorem dX7_loose_72 : decode cX7_loose 72 = .ok (.aload_n 0, 1) := by decide +kernel
theorem dX7_loose_73 : decode cX7_loose 73 = .ok (.getfield 71, 3) := by decide +kernel
theorem dX7_loose_76 : decode cX7_loose 76 = .ok (.iconst 0, 1) := by decide +kernel
theorem dX7_loose_77 : decode cX7_loose 77 = .ok (.iaload, 1) := by decide +kernel
theorem dX7_loose_78 : decode cX7_loose 78 = .ok (.ifCond .ne 7, 3) := by decide +kernel
theorem dX7_loose_81 : decode cX7_loose 81 = .ok (.iconst 1, 1) := by decide +kernel
theorem dX7_loose_82 : decode cX7_loose 82 = .ok (.goto 4, 3) := by decide +kernel
theorem dX7_loose_85 : decode cX7_loose 85 = .ok (.iconst 0, 1) := by decide +kernel
theorem dX7_loose_86 : decode cX7_loose 86 = .ok (.ireturn, 1) := by decide +kernel
theorem dX7_loose_87 : decode cX7_loose 87 = .ok (.aload_n 0, 1) := by decide +kernel
theorem dX7_loose_88 : decode cX7_loose 88 = .ok (.getfield 99, 3) := by decide +kernel
theorem dX7_loose_91 : decode cX7_loose 91 = .ok (.iconst 1, 1) := by decide +kernel
theorem dX7_loose_92 : decode cX7_loose 92 = .ok (.iaload, 1) := by decide +kernel
theorem dX7_loose_93 : decode cX7_loose 93 = .ok (.ireturn, 1) := by decide +kernel
theorem dX7_loose_94 : decode cX7_loose 94 = .ok (.aload_n 0, 1) := by decide +kernel
theorem dX7_loose_95 : decode cX7_loose 95 = .ok (.getfield 96, 3) := by decide +kernel
theorem dX7_loose_98 : decode cX7_loose 98 = .ok (.iconst 1, 1) := by decide +kernel
theorem dX7_loose_99 : decode cX7_loose 99 = .ok (.iaload, 1) := by decide +kernel
theorem dX7_loose_100 : decode cX7_loose 100 = .ok (.ireturn, 1) := by decide +kernel
theorem dX7_loose_101 : decode cX7_loose 101 = .ok (.aload_n 0, 1) := by decide +kernel
theorem dX7_loose_102 : decode cX7_loose 102 = .ok (.getfield 375, 3) := by decide +kernel
theorem dX7_loose_105 : decode cX7_loose 105 = .ok (.ireturn, 1) := by decide +kernel
set_option maxHeartbeats 4000000 in
theorem C_m_loose {Γ : GT} {m sz : Nat} {x1 : Int32} {f : MF} {a : MA} {rz : Int32} {fz : MF} {az : MA} (h : m_loose x1 f a = some (rz, fz, az)) : CM Γ JX7_loose 1 [.ref m, .int x1] (mixM m f a sz) 0 0 (.returned (some (.int rz)), mixM m fz az sz) := by
  refine CM.of (by decide +kernel) (Nat.le_of_ble_eq_true rfl) ?_
  unfold m_loose at h
  show Ex Γ JX7_loose 1 0 [(0, .ref m), (1, .int x1)] [] (mixM m f a sz) 0 0 _
  refine Ex_aload_n dX7_loose_0 rfl rfl ?_
  refine Ex_iconst (v := 0) dX7_loose_1 (by decide) ?_
  refine Em_put FW_X7_152 rfl rfl rfl dX7_loose_2 ?_
  refine Ex_iload_n dX7_loose_5 rfl rfl ?_
  refine Ex_if_lt (tgt := 14) dX7_loose_6 (by decide) (fun c8 => ?_) (fun c8 => ?_)
  · have h := if_t h c8
    refine Ex_iconst (v := -1) dX7_loose_14 (by decide) ?_
    cases h
    exact Ex_ireturn rfl dX7_loose_15
  · have h := if_f h c8
    refine Ex_iload_n dX7_loose_9 rfl rfl ?_
    refine Ex_iconst (v := 4) dX7_loose_10 (by decide) ?_
    refine Ex_icmp_le (tgt := 16) dX7_loose_11 (by decide) (fun c7 => ?_) (fun c7 => ?_)
    · have h := if_t h c7
      refine Ex_aload_n dX7_loose_16 rfl rfl ?_
      refine Em_get FO_X7_290 rfl dX7_loose_17 ?_
      refine Ex_if_ne (tgt := 25) dX7_loose_20 (by decide) (fun c6 => ?_) (fun c6 => ?_)
      · have h := if_f h c6
        refine Ex_iload_n dX7_loose_25 rfl rfl ?_
        by_cases cx : x1 = (0 : Int32)
        · have h := if_t h cx
          refine Ex_tableIn (tgt := 56) dX7_loose_26 (by rw [cx]; decide) (by rw [cx]; decide) (by rw [cx]; rfl) (by decide) ?_
          refine Ex_aload_n dX7_loose_56 rfl rfl ?_
          refine Em_get FO_X7_384 rfl dX7_loose_57 ?_
          cases h
          exact Ex_ireturn rfl dX7_loose_60
        have h := if_f h cx
        have n0 := lv_neT cx (a := 0) (by decide)
        by_cases cx : x1 = (1 : Int32)
        · have h := if_t h cx
          refine Ex_tableIn (tgt := 61) dX7_loose_26 (by rw [cx]; decide) (by rw [cx]; decide) (by rw [cx]; rfl) (by decide) ?_
          refine Ex_aload_n dX7_loose_61 rfl rfl ?_
          refine Em_get FO_X7_381 rfl dX7_loose_62 ?_
          refine Ex_if_eq (tgt := 72) dX7_loose_65 (by decide) (fun c3 => ?_) (fun c3 => ?_)
          · have h := if_t h c3
            refine Ex_aload_n dX7_loose_72 rfl rfl ?_
            refine Em_getA (j := 19) FO_X7_71 rfl rfl dX7_loose_73 ?_
            refine Ex_iconst (v := 0) dX7_loose_76 (by decide) ?_
            obtain ⟨hb1, h⟩ := chk_some h
            refine Em_iald (by decide) rfl hb1 dX7_loose_77 ?_
            refine Ex_if_ne (tgt := 85) dX7_loose_78 (by decide) (fun c2 => ?_) (fun c2 => ?_)
            · have h := if_f h c2
              refine Ex_iconst (v := 0) dX7_loose_85 (by decide) ?_
              cases h
              exact Ex_ireturn rfl dX7_loose_86
            · have h := if_t h c2
              refine Ex_iconst (v := 1) dX7_loose_81 (by decide) ?_
              refine Ex_goto (tgt := 86) dX7_loose_82 (by decide) ?_
              cases h
              exact Ex_ireturn rfl dX7_loose_86
          · have h := if_f h c3
            refine Ex_iconst (v := 2) dX7_loose_68 (by decide) ?_
            refine Ex_goto (tgt := 86) dX7_loose_69 (by decide) ?_
            cases h
            exact Ex_ireturn rfl dX7_loose_86
        have h := if_f h cx
        have n1 := lv_neT cx (a := 1) (by decide)
        by_cases cx : x1 = (2 : Int32)
        · have h := if_t h cx
          refine Ex_tableIn (tgt := 87) dX7_loose_26 (by rw [cx]; decide) (by rw [cx]; decide) (by rw [cx]; rfl) (by decide) ?_
          refine Ex_aload_n dX7_loose_87 rfl rfl ?_
          refine Em_getA (j := 28) FO_X7_99 rfl rfl dX7_loose_88 ?_
          refine Ex_iconst (v := 1) dX7_loose_91 (by decide) ?_
          obtain ⟨hb4, h⟩ := chk_some h
          refine Em_iald (by decide) rfl hb4 dX7_loose_92 ?_
          cases h
          exact Ex_ireturn rfl dX7_loose_93
        have h := if_f h cx
        have n2 := lv_neT cx (a := 2) (by decide)
        by_cases cx : x1 = (3 : Int32)
        · have h := if_t h cx
          refine Ex_tableIn (tgt := 94) dX7_loose_26 (by rw [cx]; decide) (by rw [cx]; decide) (by rw [cx]; rfl) (by decide) ?_
          refine Ex_aload_n dX7_loose_94 rfl rfl ?_
          refine Em_getA (j := 27) FO_X7_96 rfl rfl dX7_loose_95 ?_
          refine Ex_iconst (v := 1) dX7_loose_98 (by decide) ?_
          obtain ⟨hb5, h⟩ := chk_some h
          refine Em_iald (by decide) rfl hb5 dX7_loose_99 ?_
          cases h
          exact Ex_ireturn rfl dX7_loose_100
        have h := if_f h cx
        have n3 := lv_neT cx (a := 3) (by decide)
        refine Ex_tableOut (tgt := 101) dX7_loose_26 (by omega) (by decide) ?_
        refine Ex_aload_n dX7_loose_101 rfl rfl ?_
        refine Em_get FO_X7_375 rfl dX7_loose_102 ?_
        cases h
        exact Ex_ireturn rfl dX7_loose_105
      · have h := if_t h c6
        refine Ex_iconst (v := 0) dX7_loose_23 (by decide) ?_
        cases h
        exact Ex_ireturn rfl dX7_loose_24
    · have h := if_f h c7
      refine Ex_iconst (v := -1) dX7_loose_14 (by decide) ?_
      cases h
      exact Ex_ireturn rfl dX7_loose_15
