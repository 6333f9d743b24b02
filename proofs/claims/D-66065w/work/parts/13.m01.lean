set_option maxRecDepth 100000
theorem dX7_isStatement_0 : decode cX7_isStatement 0 = .ok (.iload_n 0, 1) := by decide +kernel
theorem dX7_isStatement_1 : decode cX7_isStatement 1 = .ok (.invokestatic 190, 3) := by decide +kernel
theorem dX7_isStatement_4 : decode cX7_isStatement 4 = .ok (.ifCond .ne 52, 3) := by decide +kernel
theorem dX7_isStatement_7 : decode cX7_isStatement 7 = .ok (.iload_n 0, 1) := by decide +kernel
theorem dX7_isStatement_8 : decode cX7_isStatement 8 = .ok (.invokestatic 196, 3) := by decide +kernel
theorem dX7_isStatement_11 : decode cX7_isStatement 11 = .ok (.ifCond .ne 45, 3) := by decide +kernel
theorem dX7_isStatement_14 : decode cX7_isStatement 14 = .ok (.iload_n 0, 1) := by decide +kernel
theorem dX7_isStatement_15 : decode cX7_isStatement 15 = .ok (.bipush 64, 2) := by decide +kernel
theorem dX7_isStatement_17 : decode cX7_isStatement 17 = .ok (.if_icmp .eq 39, 3) := by decide +kernel
theorem dX7_isStatement_20 : decode cX7_isStatement 20 = .ok (.iload_n 0, 1) := by decide +kernel
theorem dX7_isStatement_21 : decode cX7_isStatement 21 = .ok (.bipush 43, 2) := by decide +kernel
theorem dX7_isStatement_23 : decode cX7_isStatement 23 = .ok (.if_icmp .eq 33, 3) := by decide +kernel
theorem dX7_isStatement_26 : decode cX7_isStatement 26 = .ok (.iload_n 0, 1) := by decide +kernel
theorem dX7_isStatement_27 : decode cX7_isStatement 27 = .ok (.bipush 33, 2) := by decide +kernel
theorem dX7_isStatement_29 : decode cX7_isStatement 29 = .ok (.if_icmp .eq 27, 3) := by decide +kernel
theorem dX7_isStatement_32 : decode cX7_isStatement 32 = .ok (.iload_n 0, 1) := by decide +kernel
theorem dX7_isStatement_33 : decode cX7_isStatement 33 = .ok (.bipush 38, 2) := by decide +kernel
theorem dX7_isStatement_35 : decode cX7_isStatement 35 = .ok (.if_icmp .eq 21, 3) := by decide +kernel
theorem dX7_isStatement_38 : decode cX7_isStatement 38 = .ok (.iload_n 0, 1) := by decide +kernel
theorem dX7_isStatement_39 : decode cX7_isStatement 39 = .ok (.bipush 95, 2) := by decide +kernel
theorem dX7_isStatement_41 : decode cX7_isStatement 41 = .ok (.if_icmp .eq 15, 3) := by decide +kernel
theorem dX7_isStatement_44 : decode cX7_isStatement 44 = .ok (.iload_n 0, 1) := by decide +kernel
theorem dX7_isStatement_45 : decode cX7_isStatement 45 = .ok (.bipush 63, 2) := by decide +kernel
theorem dX7_isStatement_47 : decode cX7_isStatement 47 = .ok (.if_icmp .eq 9, 3) := by decide +kernel
theorem dX7_isStatement_50 : decode cX7_isStatement 50 = .ok (.iload_n 0, 1) := by decide +kernel
theorem dX7_isStatement_51 : decode cX7_isStatement 51 = .ok (.bipush 42, 2) := by decide +kernel
theorem dX7_isStatement_53 : decode cX7_isStatement 53 = .ok (.if_icmp .ne 7, 3) := by decide +kernel
theorem dX7_isStatement_56 : decode cX7_isStatement 56 = .ok (.iconst 1, 1) := by decide +kernel
theorem dX7_isStatement_57 : decode cX7_isStatement 57 = .ok (.goto 4, 3) := by decide +kernel
theorem dX7_isStatement_60 : decode cX7_isStatement 60 = .ok (.iconst 0, 1) := by decide +kernel
theorem dX7_isStatement_61 : decode cX7_isStatement 61 = .ok (.ireturn, 1) := by decide +kernel
set_option maxHeartbeats 4000000 in
theorem C_m_isStatement {Γ : GT} {m sz : Nat} {x0 : Int32} {f : MF} {a : MA} {rz : Int32} {fz : MF} {az : MA} (h : m_isStatement x0 f a = some (rz, fz, az)) : CM Γ JX7_isStatement 2 [.int x0] (mixM m f a sz) 0 0 (.returned (some (.int rz)), mixM m fz az sz) := by
  refine CM.of (by decide +kernel) (Nat.le_of_ble_eq_true rfl) ?_
  unfold m_isStatement at h
  show Ex Γ JX7_isStatement 2 0 [(0, .int x0)] [] (mixM m f a sz) 0 0 _
  refine Ex_iload_n dX7_isStatement_0 rfl rfl ?_
  obtain ⟨r1, f2, a3, hc4, h⟩ := bnd_some h
  refine Em_callSi (C_m_isVariable hc4) CS_X7_190 (by decide) rfl rfl (Nat.le_of_ble_eq_true rfl) dX7_isStatement_1 ?_
  refine Ex_if_ne (tgt := 56) dX7_isStatement_4 (by decide) (fun c17 => ?_) (fun c17 => ?_)
  · have h := if_f h c17
    refine Ex_iconst (v := 1) dX7_isStatement_56 (by decide) ?_
    refine Ex_goto (tgt := 61) dX7_isStatement_57 (by decide) ?_
    cases h
    exact Ex_zreturn rfl rfl dX7_isStatement_61
  · have h := if_t h c17
    refine Ex_iload_n dX7_isStatement_7 rfl rfl ?_
    obtain ⟨r5, f6, a7, hc8, h⟩ := bnd_some h
    refine Em_callSi (C_m_isName hc8) CS_X7_196 (by decide) rfl rfl (Nat.le_of_ble_eq_true rfl) dX7_isStatement_8 ?_
    refine Ex_if_ne (tgt := 56) dX7_isStatement_11 (by decide) (fun c16 => ?_) (fun c16 => ?_)
    · have h := if_f h c16
      refine Ex_iconst (v := 1) dX7_isStatement_56 (by decide) ?_
      refine Ex_goto (tgt := 61) dX7_isStatement_57 (by decide) ?_
      cases h
      exact Ex_zreturn rfl rfl dX7_isStatement_61
    · have h := if_t h c16
      refine Ex_iload_n dX7_isStatement_14 rfl rfl ?_
      refine Ex_bipush (v := 64) dX7_isStatement_15 (by decide) ?_
      refine Ex_icmp_eq (tgt := 56) dX7_isStatement_17 (by decide) (fun c15 => ?_) (fun c15 => ?_)
      · have h := if_t h c15
        refine Ex_iconst (v := 1) dX7_isStatement_56 (by decide) ?_
        refine Ex_goto (tgt := 61) dX7_isStatement_57 (by decide) ?_
        cases h
        exact Ex_zreturn rfl rfl dX7_isStatement_61
      · have h := if_f h c15
        refine Ex_iload_n dX7_isStatement_20 rfl rfl ?_
        refine Ex_bipush (v := 43) dX7_isStatement_21 (by decide) ?_
        refine Ex_icmp_eq (tgt := 56) dX7_isStatement_23 (by decide) (fun c14 => ?_) (fun c14 => ?_)
        · have h := if_t h c14
          refine Ex_iconst (v := 1) dX7_isStatement_56 (by decide) ?_
          refine Ex_goto (tgt := 61) dX7_isStatement_57 (by decide) ?_
          cases h
          exact Ex_zreturn rfl rfl dX7_isStatement_61
        · have h := if_f h c14
          refine Ex_iload_n dX7_isStatement_26 rfl rfl ?_
          refine Ex_bipush (v := 33) dX7_isStatement_27 (by decide) ?_
          refine Ex_icmp_eq (tgt := 56) dX7_isStatement_29 (by decide) (fun c13 => ?_) (fun c13 => ?_)
          · have h := if_t h c13
            refine Ex_iconst (v := 1) dX7_isStatement_56 (by decide) ?_
            refine Ex_goto (tgt := 61) dX7_isStatement_57 (by decide) ?_
            cases h
            exact Ex_zreturn rfl rfl dX7_isStatement_61
          · have h := if_f h c13
            refine Ex_iload_n dX7_isStatement_32 rfl rfl ?_
            refine Ex_bipush (v := 38) dX7_isStatement_33 (by decide) ?_
            refine Ex_icmp_eq (tgt := 56) dX7_isStatement_35 (by decide) (fun c12 => ?_) (fun c12 => ?_)
            · have h := if_t h c12
              refine Ex_iconst (v := 1) dX7_isStatement_56 (by decide) ?_
              refine Ex_goto (tgt := 61) dX7_isStatement_57 (by decide) ?_
              cases h
              exact Ex_zreturn rfl rfl dX7_isStatement_61
            · have h := if_f h c12
              refine Ex_iload_n dX7_isStatement_38 rfl rfl ?_
              refine Ex_bipush (v := 95) dX7_isStatement_39 (by decide) ?_
              refine Ex_icmp_eq (tgt := 56) dX7_isStatement_41 (by decide) (fun c11 => ?_) (fun c11 => ?_)
              · have h := if_t h c11
                refine Ex_iconst (v := 1) dX7_isStatement_56 (by decide) ?_
                refine Ex_goto (tgt := 61) dX7_isStatement_57 (by decide) ?_
                cases h
                exact Ex_zreturn rfl rfl dX7_isStatement_61
              · have h := if_f h c11
                refine Ex_iload_n dX7_isStatement_44 rfl rfl ?_
                refine Ex_bipush (v := 63) dX7_isStatement_45 (by decide) ?_
                refine Ex_icmp_eq (tgt := 56) dX7_isStatement_47 (by decide) (fun c10 => ?_) (fun c10 => ?_)
                · have h := if_t h c10
                  refine Ex_iconst (v := 1) dX7_isStatement_56 (by decide) ?_
                  refine Ex_goto (tgt := 61) dX7_isStatement_57 (by decide) ?_
                  cases h
                  exact Ex_zreturn rfl rfl dX7_isStatement_61
                · have h := if_f h c10
                  refine Ex_iload_n dX7_isStatement_50 rfl rfl ?_
                  refine Ex_bipush (v := 42) dX7_isStatement_51 (by decide) ?_
                  refine Ex_icmp_ne (tgt := 60) dX7_isStatement_53 (by decide) (fun c9 => ?_) (fun c9 => ?_)
                  · have h := if_f h c9
                    refine Ex_iconst (v := 0) dX7_isStatement_60 (by decide) ?_
                    cases h
                    exact Ex_zreturn rfl rfl dX7_isStatement_61
                  · have h := if_t h c9
                    refine Ex_iconst (v := 1) dX7_isStatement_56 (by decide) ?_
                    refine Ex_goto (tgt := 61) dX7_isStatement_57 (by decide) ?_
                    cases h
                    exact Ex_zreturn rfl rfl dX7_isStatement_61
theorem dX7_called_0 : decode cX7_called 0 = .ok (.aload_n 0, 1) := by decide +kernel
theorem dX7_called_1 : decode cX7_called 1 = .ok (.invokevirtual 166, 3) := by decide +kernel
theorem dX7_called_4 : decode cX7_called 4 = .ok (.invokestatic 196, 3) := by decide +kernel
theorem dX7_called_7 : decode cX7_called 7 = .ok (.ifCond .ne 12, 3) := by decide +kernel
theorem dX7_called_10 : decode cX7_called 10 = .ok (.aload_n 0, 1) := by decide +kernel
theorem dX7_called_11 : decode cX7_called 11 = .ok (.aload_n 0, 1) := by decide +kernel
theorem dX7_called_12 : decode cX7_called 12 = .ok (.getfield 160, 3) := by decide +kernel
theorem dX7_called_15 : decode cX7_called 15 = .ok (.invokevirtual 173, 3) := by decide +kernel
theorem dX7_called_18 : decode cX7_called 18 = .ok (.return_, 1) := by decide +kernel
theorem dX7_called_19 : decode cX7_called 19 = .ok (.aload_n 0, 1) := by decide +kernel
theorem dX7_called_20 : decode cX7_called 20 = .ok (.iload_n 1, 1) := by decide +kernel
theorem dX7_called_21 : decode cX7_called 21 = .ok (.putfield 209, 3) := by decide +kernel
theorem dX7_called_24 : decode cX7_called 24 = .ok (.aload_n 0, 1) := by decide +kernel
theorem dX7_called_25 : decode cX7_called 25 = .ok (.aload_n 0, 1) := by decide +kernel
theorem dX7_called_26 : decode cX7_called 26 = .ok (.invokevirtual 166, 3) := by decide +kernel
theorem dX7_called_29 : decode cX7_called 29 = .ok (.putfield 213, 3) := by decide +kernel
theorem dX7_called_32 : decode cX7_called 32 = .ok (.aload_n 0, 1) := by decide +kernel
theorem dX7_called_33 : decode cX7_called 33 = .ok (.aload_n 0, 1) := by decide +kernel
theorem dX7_called_34 : decode cX7_called 34 = .ok (.getfield 160, 3) := by decide +kernel
theorem dX7_called_37 : decode cX7_called 37 = .ok (.putfield 216, 3) := by decide +kernel
theorem dX7_called_40 : decode cX7_called 40 = .ok (.aload_n 0, 1) := by decide +kernel
theorem dX7_called_41 : decode cX7_called 41 = .ok (.iconst 0, 1) := by decide +kernel
theorem dX7_called_42 : decode cX7_called 42 = .ok (.putfield 219, 3) := by decide +kernel
theorem dX7_called_45 : decode cX7_called 45 = .ok (.aload_n 0, 1) := by decide +kernel
theorem dX7_called_46 : decode cX7_called 46 = .ok (.invokevirtual 206, 3) := by decide +kernel
theorem dX7_called_49 : decode cX7_called 49 = .ok (.aload_n 0, 1) := by decide +kernel
theorem dX7_called_50 : decode cX7_called 50 = .ok (.sipush 222, 3) := by decide +kernel
theorem dX7_called_53 : decode cX7_called 53 = .ok (.invokevirtual 199, 3) := by decide +kernel
theorem dX7_called_56 : decode cX7_called 56 = .ok (.aload_n 0, 1) := by decide +kernel
theorem dX7_called_57 : decode cX7_called 57 = .ok (.bipush 59, 2) := by decide +kernel
theorem dX7_called_59 : decode cX7_called 59 = .ok (.invokevirtual 199, 3) := by decide +kernel
theorem dX7_called_62 : decode cX7_called 62 = .ok (.aload_n 0, 1) := by decide +kernel
theorem dX7_called_63 : decode cX7_called 63 = .ok (.bipush 41, 2) := by decide +kernel
theorem dX7_called_65 : decode cX7_called 65 = .ok (.invokevirtual 199, 3) := by decide +kernel
theorem dX7_called_68 : decode cX7_called 68 = .ok (.aload_n 0, 1) := by decide +kernel
theorem dX7_called_69 : decode cX7_called 69 = .ok (.sipush 208, 3) := by decide +kernel
theorem dX7_called_72 : decode cX7_called 72 = .ok (.invokevirtual 199, 3) := by decide +kernel
theorem dX7_called_75 : decode cX7_called 75 = .ok (.aload_n 0, 1) := by decide +kernel
theorem dX7_called_76 : decode cX7_called 76 = .ok (.bipush 40, 2) := by decide +kernel
theorem dX7_called_78 : decode cX7_called 78 = .ok (.invokevirtual 199, 3) := by decide +kernel
theorem dX7_called_81 : decode cX7_called 81 = .ok (.return_, 1) := by decide +kernel
set_option maxHeartbeats 4000000 in
theorem C_m_called {Γ : GT} {m sz : Nat} {x1 : Int32} {f : MF} {a : MA} {rz : Int32} {fz : MF} {az : MA} (h : m_called x1 f a = some (rz, fz, az)) : CM Γ JX7_called 3 [.ref m, .int x1] (mixM m f a sz) 0 0 (.returned none, mixM m fz az sz) := by
  refine CM.of (by decide +kernel) (Nat.le_of_ble_eq_true rfl) ?_
  unfold m_called at h
  show Ex Γ JX7_called 3 0 [(0, .ref m), (1, .int x1)] [] (mixM m f a sz) 0 0 _
  refine Ex_aload_n dX7_called_0 rfl rfl ?_
  obtain ⟨r1, f2, a3, hc4, h⟩ := bnd_some h
  refine Em_callVi (C_m_here hc4) CV_X7_166 (by decide) rfl rfl (Nat.le_of_ble_eq_true rfl) dX7_called_1 ?_
  obtain ⟨r5, f6, a7, hc8, h⟩ := bnd_some h
  refine Em_callSi (C_m_isName hc8) CS_X7_196 (by decide) rfl rfl (Nat.le_of_ble_eq_true rfl) dX7_called_4 ?_
  refine Ex_if_ne (tgt := 19) dX7_called_7 (by decide) (fun c42 => ?_) (fun c42 => ?_)
  · have h := if_f h c42
    refine Ex_aload_n dX7_called_19 rfl rfl ?_
    refine Ex_iload_n dX7_called_20 rfl rfl ?_
    obtain ⟨hz9, h⟩ := chk_some h
    refine Em_put FW_X7_209 rfl (zb_n hz9) (zb_f hz9) dX7_called_21 ?_
    refine Ex_aload_n dX7_called_24 rfl rfl ?_
    refine Ex_aload_n dX7_called_25 rfl rfl ?_
    obtain ⟨r10, f11, a12, hc13, h⟩ := bnd_some h
    refine Em_callVi (C_m_here hc13) CV_X7_166 (by decide) rfl rfl (Nat.le_of_ble_eq_true rfl) dX7_called_26 ?_
    refine Em_put FW_X7_213 rfl rfl rfl dX7_called_29 ?_
    refine Ex_aload_n dX7_called_32 rfl rfl ?_
    refine Ex_aload_n dX7_called_33 rfl rfl ?_
    refine Em_get FO_X7_160 rfl dX7_called_34 ?_
    refine Em_put FW_X7_216 rfl rfl rfl dX7_called_37 ?_
    refine Ex_aload_n dX7_called_40 rfl rfl ?_
    refine Ex_iconst (v := 0) dX7_called_41 (by decide) ?_
    refine Em_put FW_X7_219 rfl rfl rfl dX7_called_42 ?_
    refine Ex_aload_n dX7_called_45 rfl rfl ?_
    obtain ⟨r14, f15, a16, hc17, h⟩ := bnd_some h
    refine Em_callVv (C_m_take hc17) CV_X7_206 (by decide) rfl rfl (Nat.le_of_ble_eq_true rfl) dX7_called_46 ?_
    refine Ex_aload_n dX7_called_49 rfl rfl ?_
    refine Ex_sipush (v := 222) dX7_called_50 (by decide) ?_
    obtain ⟨r18, f19, a20, hc21, h⟩ := bnd_some h
    refine Em_callVv (C_m_push hc21) CV_X7_199 (by decide) rfl rfl (Nat.le_of_ble_eq_true rfl) dX7_called_53 ?_
    refine Ex_aload_n dX7_called_56 rfl rfl ?_
    refine Ex_bipush (v := 59) dX7_called_57 (by decide) ?_
    obtain ⟨r22, f23, a24, hc25, h⟩ := bnd_some h
    refine Em_callVv (C_m_push hc25) CV_X7_199 (by decide) rfl rfl (Nat.le_of_ble_eq_true rfl) dX7_called_59 ?_
    refine Ex_aload_n dX7_called_62 rfl rfl ?_
    refine Ex_bipush (v := 41) dX7_called_63 (by decide) ?_
    obtain ⟨r26, f27, a28, hc29, h⟩ := bnd_some h
    refine Em_callVv (C_m_push hc29) CV_X7_199 (by decide) rfl rfl (Nat.le_of_ble_eq_true rfl) dX7_called_65 ?_
    refine Ex_aload_n dX7_called_68 rfl rfl ?_
    refine Ex_sipush (v := 208) dX7_called_69 (by decide) ?_
    obtain ⟨r30, f31, a32, hc33, h⟩ := bnd_some h
    refine Em_callVv (C_m_push hc33) CV_X7_199 (by decide) rfl rfl (Nat.le_of_ble_eq_true rfl) dX7_called_72 ?_
    refine Ex_aload_n dX7_called_75 rfl rfl ?_
    refine Ex_bipush (v := 40) dX7_called_76 (by decide) ?_
    obtain ⟨r34, f35, a36, hc37, h⟩ := bnd_some h
    refine Em_callVv (C_m_push hc37) CV_X7_199 (by decide) rfl rfl (Nat.le_of_ble_eq_true rfl) dX7_called_78 ?_
    cases h
    exact Ex_return rfl dX7_called_81
  · have h := if_t h c42
    refine Ex_aload_n dX7_called_10 rfl rfl ?_
    refine Ex_aload_n dX7_called_11 rfl rfl ?_
    refine Em_get FO_X7_160 rfl dX7_called_12 ?_
    obtain ⟨r38, f39, a40, hc41, h⟩ := bnd_some h
    refine Em_callVv (C_m_refuse hc41) CV_X7_173 (by decide) rfl rfl (Nat.le_of_ble_eq_true rfl) dX7_called_15 ?_
    cases h
    exact Ex_return rfl dX7_called_18
theorem dX7_statement_0 : decode cX7_statement 0 = .ok (.aload_n 0, 1) := by decide +kernel
theorem dX7_statement_1 : decode cX7_statement 1 = .ok (.invokevirtual 166, 3) := by decide +kernel
theorem dX7_statement_4 : decode cX7_statement 4 = .ok (.istore_n 1, 1) := by decide +kernel
theorem dX7_statement_5 : decode cX7_statement 5 = .ok (.aload_n 0, 1) := by decide +kernel
theorem dX7_statement_6 : decode cX7_statement 6 = .ok (.getfield 160, 3) := by decide +kernel
theorem dX7_statement_9 : decode cX7_statement 9 = .ok (.istore_n 2, 1) := by decide +kernel
theorem dX7_statement_10 : decode cX7_statement 10 = .ok (.iload_n 1, 1) := by decide +kernel
theorem dX7_statement_11 : decode cX7_statement 11 = .ok (.invokestatic 196, 3) := by decide +kernel
theorem dX7_statement_14 : decode cX7_statement 14 = .ok (.ifCond .eq 9, 3) := by decide +kernel
theorem dX7_statement_17 : decode cX7_statement 17 = .ok (.aload_n 0, 1) := by decide +kernel
theorem dX7_statement_18 : decode cX7_statement 18 = .ok (.iconst 0, 1) := by decide +kernel
theorem dX7_statement_19 : decode cX7_statement 19 = .ok (.invokevirtual 222, 3) := by decide +kernel
theorem dX7_statement_22 : decode cX7_statement 22 = .ok (.return_, 1) := by decide +kernel
theorem dX7_statement_23 : decode cX7_statement 23 = .ok (.aload_n 0, 1) := by decide +kernel
theorem dX7_statement_24 : decode cX7_statement 24 = .ok (.invokevirtual 206, 3) := by decide +kernel
theorem dX7_statement_27 : decode cX7_statement 27 = .ok (.iload_n 1, 1) := by decide +kernel
theorem dX7_statement_28 : decode cX7_statement 28 = .ok (.invokestatic 190, 3) := by decide +kernel
theorem dX7_statement_31 : decode cX7_statement 31 = .ok (.ifCond .eq 40, 3) := by decide +kernel
theorem dX7_statement_34 : decode cX7_statement 34 = .ok (.aload_n 0, 1) := by decide +kernel
theorem dX7_statement_35 : decode cX7_statement 35 = .ok (.sipush 1005, 3) := by decide +kernel
theorem dX7_statement_38 : decode cX7_statement 38 = .ok (.bipush 16, 2) := by decide +kernel
theorem dX7_statement_40 : decode cX7_statement 40 = .ok (.iload_n 1, 1) := by decide +kernel
theorem dX7_statement_41 : decode cX7_statement 41 = .ok (.bipush 97, 2) := by decide +kernel
theorem dX7_statement_43 : decode cX7_statement 43 = .ok (.isub, 1) := by decide +kernel
theorem dX7_statement_44 : decode cX7_statement 44 = .ok (.imul, 1) := by decide +kernel
theorem dX7_statement_45 : decode cX7_statement 45 = .ok (.iadd, 1) := by decide +kernel
theorem dX7_statement_46 : decode cX7_statement 46 = .ok (.invokevirtual 199, 3) := by decide +kernel
theorem dX7_statement_49 : decode cX7_statement 49 = .ok (.aload_n 0, 1) := by decide +kernel
theorem dX7_statement_50 : decode cX7_statement 50 = .ok (.bipush 59, 2) := by decide +kernel
theorem dX7_statement_52 : decode cX7_statement 52 = .ok (.invokevirtual 199, 3) := by decide +kernel
theorem dX7_statement_55 : decode cX7_statement 55 = .ok (.aload_n 0, 1) := by decide +kernel
theorem dX7_statement_56 : decode cX7_statement 56 = .ok (.sipush 211, 3) := by decide +kernel
theorem dX7_statement_59 : decode cX7_statement 59 = .ok (.invokevirtual 199, 3) := by decide +kernel
theorem dX7_statement_62 : decode cX7_statement 62 = .ok (.aload_n 0, 1) := by decide +kernel
theorem dX7_statement_63 : decode cX7_statement 63 = .ok (.bipush 61, 2) := by decide +kernel
theorem dX7_statement_65 : decode cX7_statement 65 = .ok (.invokevirtual 199, 3) := by decide +kernel
theorem dX7_statement_68 : decode cX7_statement 68 = .ok (.goto 242, 3) := by decide +kernel
theorem dX7_statement_71 : decode cX7_statement 71 = .ok (.iload_n 1, 1) := by decide +kernel
theorem dX7_statement_72 : decode cX7_statement 72 = .ok (.bipush 64, 2) := by decide +kernel
theorem dX7_statement_74 : decode cX7_statement 74 = .ok (.if_icmp .ne 56, 3) := by decide +kernel
theorem dX7_statement_77 : decode cX7_statement 77 = .ok (.aload_n 0, 1) := by decide +kernel
theorem dX7_statement_78 : decode cX7_statement 78 = .ok (.sipush 1006, 3) := by decide +kernel
theorem dX7_statement_81 : decode cX7_statement 81 = .ok (.bipush 16, 2) := by decide +kernel
theorem dX7_statement_83 : decode cX7_statement 83 = .ok (.iload_n 2, 1) := by decide +kernel
theorem dX7_statement_84 : decode cX7_statement 84 = .ok (.imul, 1) := by decide +kernel
theorem dX7_statement_85 : decode cX7_statement 85 = .ok (.iadd, 1) := by decide +kernel
theorem dX7_statement_86 : decode cX7_statement 86 = .ok (.invokevirtual 199, 3) := by decide +kernel
theorem dX7_statement_89 : decode cX7_statement 89 = .ok (.aload_n 0, 1) := by decide +kernel
theorem dX7_statement_90 : decode cX7_statement 90 = .ok (.bipush 59, 2) := by decide +kernel
theorem dX7_statement_92 : decode cX7_statement 92 = .ok (.invokevirtual 199, 3) := by decide +kernel
theorem dX7_statement_95 : decode cX7_statement 95 = .ok (.aload_n 0, 1) := by decide +kernel
theorem dX7_statement_96 : decode cX7_statement 96 = .ok (.sipush 211, 3) := by decide +kernel
theorem dX7_statement_99 : decode cX7_statement 99 = .ok (.invokevirtual 199, 3) := by decide +kernel
theorem dX7_statement_102 : decode cX7_statement 102 = .ok (.aload_n 0, 1) := by decide +kernel
theorem dX7_statement_103 : decode cX7_statement 103 = .ok (.bipush 61, 2) := by decide +kernel
theorem dX7_statement_105 : decode cX7_statement 105 = .ok (.invokevirtual 199, 3) := by decide +kernel
theorem dX7_statement_108 : decode cX7_statement 108 = .ok (.aload_n 0, 1) := by decide +kernel
theorem dX7_statement_109 : decode cX7_statement 109 = .ok (.bipush 41, 2) := by decide +kernel
theorem dX7_statement_111 : decode cX7_statement 111 = .ok (.invokevirtual 199, 3) := by decide +kernel
theorem dX7_statement_114 : decode cX7_statement 114 = .ok (.aload_n 0, 1) := by decide +kernel
theorem dX7_statement_115 : decode cX7_statement 115 = .ok (.sipush 211, 3) := by decide +kernel
theorem dX7_statement_118 : decode cX7_statement 118 = .ok (.invokevirtual 199, 3) := by decide +kernel
theorem dX7_statement_121 : decode cX7_statement 121 = .ok (.aload_n 0, 1) := by decide +kernel
theorem dX7_statement_122 : decode cX7_statement 122 = .ok (.bipush 40, 2) := by decide +kernel
theorem dX7_statement_124 : decode cX7_statement 124 = .ok (.invokevirtual 199, 3) := by decide +kernel
theorem dX7_statement_127 : decode cX7_statement 127 = .ok (.goto 183, 3) := by decide +kernel
theorem dX7_statement_130 : decode cX7_statement 130 = .ok (.iload_n 1, 1) := by decide +kernel
theorem dX7_statement_131 : decode cX7_statement 131 = .ok (.bipush 43, 2) := by decide +kernel
theorem dX7_statement_133 : decode cX7_statement 133 = .ok (.if_icmp .eq 9, 3) := by decide +kernel
theorem dX7_statement_136 : decode cX7_statement 136 = .ok (.iload_n 1, 1) := by decide +kernel
theorem dX7_statement_137 : decode cX7_statement 137 = .ok (.bipush 33, 2) := by decide +kernel
theorem dX7_statement_139 : decode cX7_statement 139 = .ok (.if_icmp .ne 40, 3) := by decide +kernel
theorem dX7_statement_142 : decode cX7_statement 142 = .ok (.aload_n 0, 1) := by decide +kernel
theorem dX7_statement_143 : decode cX7_statement 143 = .ok (.sipush 1000, 3) := by decide +kernel
theorem dX7_statement_146 : decode cX7_statement 146 = .ok (.iload_n 1, 1) := by decide +kernel
theorem dX7_statement_147 : decode cX7_statement 147 = .ok (.bipush 43, 2) := by decide +kernel
theorem dX7_statement_149 : decode cX7_statement 149 = .ok (.if_icmp .ne 8, 3) := by decide +kernel
theorem dX7_statement_152 : decode cX7_statement 152 = .ok (.bipush 7, 2) := by decide +kernel
theorem dX7_statement_154 : decode cX7_statement 154 = .ok (.goto 5, 3) := by decide +kernel
theorem dX7_statement_157 : decode cX7_statement 157 = .ok (.bipush 8, 2) := by decide +kernel
theorem dX7_statement_159 : decode cX7_statement 159 = .ok (.iadd, 1) := by decide +kernel
theorem dX7_statement_160 : decode cX7_statement 160 = .ok (.invokevirtual 199, 3) := by decide +kernel
theorem dX7_statement_163 : decode cX7_statement 163 = .ok (.aload_n 0, 1) := by decide +kernel
theorem dX7_statement_164 : decode cX7_statement 164 = .ok (.bipush 59, 2) := by decide +kernel
theorem dX7_statement_166 : decode cX7_statement 166 = .ok (.invokevirtual 199, 3) := by decide +kernel
theorem dX7_statement_169 : decode cX7_statement 169 = .ok (.aload_n 0, 1) := by decide +kernel
theorem dX7_statement_170 : decode cX7_statement 170 = .ok (.sipush 211, 3) := by decide +kernel
theorem dX7_statement_173 : decode cX7_statement 173 = .ok (.invokevirtual 199, 3) := by decide +kernel
theorem dX7_statement_176 : decode cX7_statement 176 = .ok (.goto 134, 3) := by decide +kernel
theorem dX7_statement_179 : decode cX7_statement 179 = .ok (.iload_n 1, 1) := by decide +kernel
theorem dX7_statement_180 : decode cX7_statement 180 = .ok (.bipush 38, 2) := by decide +kernel
theorem dX7_statement_182 : decode cX7_statement 182 = .ok (.if_icmp .ne 13, 3) := by decide +kernel
theorem dX7_statement_185 : decode cX7_statement 185 = .ok (.aload_n 0, 1) := by decide +kernel
theorem dX7_statement_186 : decode cX7_statement 186 = .ok (.sipush 218, 3) := by decide +kernel
theorem dX7_statement_189 : decode cX7_statement 189 = .ok (.invokevirtual 199, 3) := by decide +kernel
theorem dX7_statement_192 : decode cX7_statement 192 = .ok (.goto 118, 3) := by decide +kernel
theorem dX7_statement_195 : decode cX7_statement 195 = .ok (.iload_n 1, 1) := by decide +kernel
theorem dX7_statement_196 : decode cX7_statement 196 = .ok (.bipush 95, 2) := by decide +kernel
theorem dX7_statement_198 : decode cX7_statement 198 = .ok (.if_icmp .ne 19, 3) := by decide +kernel
theorem dX7_statement_201 : decode cX7_statement 201 = .ok (.aload_n 0, 1) := by decide +kernel
theorem dX7_statement_202 : decode cX7_statement 202 = .ok (.sipush 1011, 3) := by decide +kernel
theorem dX7_statement_205 : decode cX7_statement 205 = .ok (.invokevirtual 199, 3) := by decide +kernel
theorem dX7_statement_208 : decode cX7_statement 208 = .ok (.aload_n 0, 1) := by decide +kernel
theorem dX7_statement_209 : decode cX7_statement 209 = .ok (.bipush 59, 2) := by decide +kernel
theorem dX7_statement_211 : decode cX7_statement 211 = .ok (.invokevirtual 199, 3) := by decide +kernel
theorem dX7_statement_214 : decode cX7_statement 214 = .ok (.goto 96, 3) := by decide +kernel
theorem dX7_statement_217 : decode cX7_statement 217 = .ok (.iload_n 1, 1) := by decide +kernel
theorem dX7_statement_218 : decode cX7_statement 218 = .ok (.bipush 42, 2) := by decide +kernel
theorem dX7_statement_220 : decode cX7_statement 220 = .ok (.if_icmp .ne 26, 3) := by decide +kernel
theorem dX7_statement_223 : decode cX7_statement 223 = .ok (.aload_n 0, 1) := by decide +kernel
theorem dX7_statement_224 : decode cX7_statement 224 = .ok (.getfield 47, 3) := by decide +kernel
theorem dX7_statement_227 : decode cX7_statement 227 = .ok (.aload_n 0, 1) := by decide +kernel
theorem dX7_statement_228 : decode cX7_statement 228 = .ok (.getfield 226, 3) := by decide +kernel
theorem dX7_statement_231 : decode cX7_statement 231 = .ok (.aload_n 0, 1) := by decide +kernel
theorem dX7_statement_232 : decode cX7_statement 232 = .ok (.getfield 183, 3) := by decide +kernel
theorem dX7_statement_235 : decode cX7_statement 235 = .ok (.iastore, 1) := by decide +kernel
theorem dX7_statement_236 : decode cX7_statement 236 = .ok (.aload_n 0, 1) := by decide +kernel
theorem dX7_statement_237 : decode cX7_statement 237 = .ok (.dup, 1) := by decide +kernel
theorem dX7_statement_238 : decode cX7_statement 238 = .ok (.getfield 226, 3) := by decide +kernel
theorem dX7_statement_241 : decode cX7_statement 241 = .ok (.iconst 1, 1) := by decide +kernel
theorem dX7_statement_242 : decode cX7_statement 242 = .ok (.iadd, 1) := by decide +kernel
theorem dX7_statement_243 : decode cX7_statement 243 = .ok (.putfield 226, 3) := by decide +kernel
theorem dX7_statement_246 : decode cX7_statement 246 = .ok (.aload_n 0, 1) := by decide +kernel
theorem dX7_statement_247 : decode cX7_statement 247 = .ok (.iload_n 1, 1) := by decide +kernel
theorem dX7_statement_248 : decode cX7_statement 248 = .ok (.bipush 42, 2) := by decide +kernel
theorem dX7_statement_250 : decode cX7_statement 250 = .ok (.if_icmp .ne 9, 3) := by decide +kernel
theorem dX7_statement_253 : decode cX7_statement 253 = .ok (.sipush 223, 3) := by decide +kernel
theorem dX7_statement_256 : decode cX7_statement 256 = .ok (.goto 6, 3) := by decide +kernel
theorem dX7_statement_259 : decode cX7_statement 259 = .ok (.sipush 207, 3) := by decide +kernel
theorem dX7_statement_262 : decode cX7_statement 262 = .ok (.invokevirtual 199, 3) := by decide +kernel
theorem dX7_statement_265 : decode cX7_statement 265 = .ok (.aload_n 0, 1) := by decide +kernel
theorem dX7_statement_266 : decode cX7_statement 266 = .ok (.bipush 125, 2) := by decide +kernel
theorem dX7_statement_268 : decode cX7_statement 268 = .ok (.invokevirtual 199, 3) := by decide +kernel
theorem dX7_statement_271 : decode cX7_statement 271 = .ok (.aload_n 0, 1) := by decide +kernel
theorem dX7_statement_272 : decode cX7_statement 272 = .ok (.sipush 205, 3) := by decide +kernel
theorem dX7_statement_275 : decode cX7_statement 275 = .ok (.invokevirtual 199, 3) := by decide +kernel
theorem dX7_statement_278 : decode cX7_statement 278 = .ok (.aload_n 0, 1) := by decide +kernel
theorem dX7_statement_279 : decode cX7_statement 279 = .ok (.bipush 123, 2) := by decide +kernel
theorem dX7_statement_281 : decode cX7_statement 281 = .ok (.invokevirtual 199, 3) := by decide +kernel
theorem dX7_statement_284 : decode cX7_statement 284 = .ok (.aload_n 0, 1) := by decide +kernel
theorem dX7_statement_285 : decode cX7_statement 285 = .ok (.sipush 220, 3) := by decide +kernel
theorem dX7_statement_288 : decode cX7_statement 288 = .ok (.invokevirtual 199, 3) := by decide +kernel
theorem dX7_statement_291 : decode cX7_statement 291 = .ok (.aload_n 0, 1) := by decide +kernel
theorem dX7_statement_292 : decode cX7_statement 292 = .ok (.bipush 41, 2) := by decide +kernel
theorem dX7_statement_294 : decode cX7_statement 294 = .ok (.invokevirtual 199, 3) := by decide +kernel
theorem dX7_statement_297 : decode cX7_statement 297 = .ok (.aload_n 0, 1) := by decide +kernel
theorem dX7_statement_298 : decode cX7_statement 298 = .ok (.sipush 211, 3) := by decide +kernel
theorem dX7_statement_301 : decode cX7_statement 301 = .ok (.invokevirtual 199, 3) := by decide +kernel
theorem dX7_statement_304 : decode cX7_statement 304 = .ok (.aload_n 0, 1) := by decide +kernel
theorem dX7_statement_305 : decode cX7_statement 305 = .ok (.bipush 40, 2) := by decide +kernel
theorem dX7_statement_307 : decode cX7_statement 307 = .ok (.invokevirtual 199, 3) := by decide +kernel
theorem dX7_statement_310 : decode cX7_statement 310 = .ok (.return_, 1) := by decide +kernel
set_option maxHeartbeats 4000000 in
theorem Wm_statement_142 {Γ : GT} {m sz : Nat} {x1 : Int32} {f : MF} {a : MA} {rz : Int32} {fz : MF} {az : MA} (h : m_statement_142 x1 f a = some (rz, fz, az)) : Ex Γ JX7_statement 4 142 [(0, .ref m), (1, .int x1)] [] (mixM m f a sz) 0 0 (.returned none, mixM m fz az sz) := by
  unfold m_statement_142 at h
  refine Ex_aload_n dX7_statement_142 rfl rfl ?_
  refine Ex_sipush (v := 1000) dX7_statement_143 (by decide) ?_
  refine Ex_iload_n dX7_statement_146 rfl rfl ?_
  refine Ex_bipush (v := 43) dX7_statement_147 (by decide) ?_
  refine Ex_icmp_ne (tgt := 157) dX7_statement_149 (by decide) (fun c41 => ?_) (fun c41 => ?_)
  · have h := if_f h c41
    refine Ex_bipush (v := 8) dX7_statement_157 (by decide) ?_
    refine Ex_iadd dX7_statement_159 ?_
    obtain ⟨r17, f18, a19, hc20, h⟩ := bnd_some h
    refine Em_callVv (C_m_push hc20) CV_X7_199 (by decide) rfl rfl (Nat.le_of_ble_eq_true rfl) dX7_statement_160 ?_
    refine Ex_aload_n dX7_statement_163 rfl rfl ?_
    refine Ex_bipush (v := 59) dX7_statement_164 (by decide) ?_
    obtain ⟨r21, f22, a23, hc24, h⟩ := bnd_some h
    refine Em_callVv (C_m_push hc24) CV_X7_199 (by decide) rfl rfl (Nat.le_of_ble_eq_true rfl) dX7_statement_166 ?_
    refine Ex_aload_n dX7_statement_169 rfl rfl ?_
    refine Ex_sipush (v := 211) dX7_statement_170 (by decide) ?_
    obtain ⟨r25, f26, a27, hc28, h⟩ := bnd_some h
    refine Em_callVv (C_m_push hc28) CV_X7_199 (by decide) rfl rfl (Nat.le_of_ble_eq_true rfl) dX7_statement_173 ?_
    refine Ex_goto (tgt := 310) dX7_statement_176 (by decide) ?_
    cases h
    exact Ex_return rfl dX7_statement_310
  · have h := if_t h c41
    refine Ex_bipush (v := 7) dX7_statement_152 (by decide) ?_
    refine Ex_goto (tgt := 159) dX7_statement_154 (by decide) ?_
    refine Ex_iadd dX7_statement_159 ?_
    obtain ⟨r29, f30, a31, hc32, h⟩ := bnd_some h
    refine Em_callVv (C_m_push hc32) CV_X7_199 (by decide) rfl rfl (Nat.le_of_ble_eq_true rfl) dX7_statement_160 ?_
    refine Ex_aload_n dX7_statement_163 rfl rfl ?_
    refine Ex_bipush (v := 59) dX7_statement_164 (by decide) ?_
    obtain ⟨r33, f34, a35, hc36, h⟩ := bnd_some h
    refine Em_callVv (C_m_push hc36) CV_X7_199 (by decide) rfl rfl (Nat.le_of_ble_eq_true rfl) dX7_statement_166 ?_
    refine Ex_aload_n dX7_statement_169 rfl rfl ?_
    refine Ex_sipush (v := 211) dX7_statement_170 (by decide) ?_
    obtain ⟨r37, f38, a39, hc40, h⟩ := bnd_some h
    refine Em_callVv (C_m_push hc40) CV_X7_199 (by decide) rfl rfl (Nat.le_of_ble_eq_true rfl) dX7_statement_173 ?_
    refine Ex_goto (tgt := 310) dX7_statement_176 (by decide) ?_
    cases h
    exact Ex_return rfl dX7_statement_310
set_option maxHeartbeats 4000000 in
theorem Wm_statement_262 {Γ : GT} {m sz : Nat} {y0 : Int32} {f : MF} {a : MA} {rz : Int32} {fz : MF} {az : MA} (h : m_statement_262 y0 f a = some (rz, fz, az)) : Ex Γ JX7_statement 4 262 [(0, .ref m)] [.int y0, .ref m] (mixM m f a sz) 0 0 (.returned none, mixM m fz az sz) := by
  unfold m_statement_262 at h
  obtain ⟨r42, f43, a44, hc45, h⟩ := bnd_some h
  refine Em_callVv (C_m_push hc45) CV_X7_199 (by decide) rfl rfl (Nat.le_of_ble_eq_true rfl) dX7_statement_262 ?_
  refine Ex_aload_n dX7_statement_265 rfl rfl ?_
  refine Ex_bipush (v := 125) dX7_statement_266 (by decide) ?_
  obtain ⟨r46, f47, a48, hc49, h⟩ := bnd_some h
  refine Em_callVv (C_m_push hc49) CV_X7_199 (by decide) rfl rfl (Nat.le_of_ble_eq_true rfl) dX7_statement_268 ?_
  refine Ex_aload_n dX7_statement_271 rfl rfl ?_
  refine Ex_sipush (v := 205) dX7_statement_272 (by decide) ?_
  obtain ⟨r50, f51, a52, hc53, h⟩ := bnd_some h
  refine Em_callVv (C_m_push hc53) CV_X7_199 (by decide) rfl rfl (Nat.le_of_ble_eq_true rfl) dX7_statement_275 ?_
  refine Ex_aload_n dX7_statement_278 rfl rfl ?_
  refine Ex_bipush (v := 123) dX7_statement_279 (by decide) ?_
  obtain ⟨r54, f55, a56, hc57, h⟩ := bnd_some h
  refine Em_callVv (C_m_push hc57) CV_X7_199 (by decide) rfl rfl (Nat.le_of_ble_eq_true rfl) dX7_statement_281 ?_
  refine Ex_aload_n dX7_statement_284 rfl rfl ?_
  refine Ex_sipush (v := 220) dX7_statement_285 (by decide) ?_
  obtain ⟨r58, f59, a60, hc61, h⟩ := bnd_some h
  refine Em_callVv (C_m_push hc61) CV_X7_199 (by decide) rfl rfl (Nat.le_of_ble_eq_true rfl) dX7_statement_288 ?_
  refine Ex_aload_n dX7_statement_291 rfl rfl ?_
  refine Ex_bipush (v := 41) dX7_statement_292 (by decide) ?_
  obtain ⟨r62, f63, a64, hc65, h⟩ := bnd_some h
  refine Em_callVv (C_m_push hc65) CV_X7_199 (by decide) rfl rfl (Nat.le_of_ble_eq_true rfl) dX7_statement_294 ?_
  refine Ex_aload_n dX7_statement_297 rfl rfl ?_
  refine Ex_sipush (v := 211) dX7_statement_298 (by decide) ?_
  obtain ⟨r66, f67, a68, hc69, h⟩ := bnd_some h
  refine Em_callVv (C_m_push hc69) CV_X7_199 (by decide) rfl rfl (Nat.le_of_ble_eq_true rfl) dX7_statement_301 ?_
  refine Ex_aload_n dX7_statement_304 rfl rfl ?_
  refine Ex_bipush (v := 40) dX7_statement_305 (by decide) ?_
  obtain ⟨r70, f71, a72, hc73, h⟩ := bnd_some h
  refine Em_callVv (C_m_push hc73) CV_X7_199 (by decide) rfl rfl (Nat.le_of_ble_eq_true rfl) dX7_statement_307 ?_
  cases h
  exact Ex_return rfl dX7_statement_310
set_option maxHeartbeats 4000000 in
theorem Wm_statement_246 {Γ : GT} {m sz : Nat} {x1 : Int32} {f : MF} {a : MA} {rz : Int32} {fz : MF} {az : MA} (h : m_statement_246 x1 f a = some (rz, fz, az)) : Ex Γ JX7_statement 4 246 [(0, .ref m), (1, .int x1)] [] (mixM m f a sz) 0 0 (.returned none, mixM m fz az sz) := by
  unfold m_statement_246 at h
  refine Ex_aload_n dX7_statement_246 rfl rfl ?_
  refine Ex_iload_n dX7_statement_247 rfl rfl ?_
  refine Ex_bipush (v := 42) dX7_statement_248 (by decide) ?_
  refine Ex_icmp_ne (tgt := 259) dX7_statement_250 (by decide) (fun c74 => ?_) (fun c74 => ?_)
  · have h := if_f h c74
    refine Ex_sipush (v := 207) dX7_statement_259 (by decide) ?_
    exact (Wm_statement_262 h).to rfl
  · have h := if_t h c74
    refine Ex_sipush (v := 223) dX7_statement_253 (by decide) ?_
    refine Ex_goto (tgt := 262) dX7_statement_256 (by decide) ?_
    exact (Wm_statement_262 h).to rfl
set_option maxHeartbeats 4000000 in
theorem C_m_statement {Γ : GT} {m sz : Nat} {f : MF} {a : MA} {rz : Int32} {fz : MF} {az : MA} (h : m_statement f a = some (rz, fz, az)) : CM Γ JX7_statement 4 [.ref m] (mixM m f a sz) 0 0 (.returned none, mixM m fz az sz) := by
  refine CM.of (by decide +kernel) (Nat.le_of_ble_eq_true rfl) ?_
  unfold m_statement at h
  show Ex Γ JX7_statement 4 0 [(0, .ref m)] [] (mixM m f a sz) 0 0 _
  refine Ex_aload_n dX7_statement_0 rfl rfl ?_
  obtain ⟨r1, f2, a3, hc4, h⟩ := bnd_some h
  refine Em_callVi (C_m_here hc4) CV_X7_166 (by decide) rfl rfl (Nat.le_of_ble_eq_true rfl) dX7_statement_1 ?_
  refine Ex_istore_n dX7_statement_4 rfl (by decide) ?_
  refine Ex_aload_n dX7_statement_5 rfl rfl ?_
  refine Em_get FO_X7_160 rfl dX7_statement_6 ?_
  refine Ex_istore_n dX7_statement_9 rfl (by decide) ?_
  refine Ex_iload_n dX7_statement_10 rfl rfl ?_
  obtain ⟨r5, f6, a7, hc8, h⟩ := bnd_some h
  refine Em_callSi (C_m_isName hc8) CS_X7_196 (by decide) rfl rfl (Nat.le_of_ble_eq_true rfl) dX7_statement_11 ?_
  refine Ex_if_eq (tgt := 23) dX7_statement_14 (by decide) (fun c143 => ?_) (fun c143 => ?_)
  · have h := if_t h c143
    refine Ex_aload_n dX7_statement_23 rfl rfl ?_
    obtain ⟨r9, f10, a11, hc12, h⟩ := bnd_some h
    refine Em_callVv (C_m_take hc12) CV_X7_206 (by decide) rfl rfl (Nat.le_of_ble_eq_true rfl) dX7_statement_24 ?_
    refine Ex_iload_n dX7_statement_27 rfl rfl ?_
    obtain ⟨r13, f14, a15, hc16, h⟩ := bnd_some h
    refine Em_callSi (C_m_isVariable hc16) CS_X7_190 (by decide) rfl rfl (Nat.le_of_ble_eq_true rfl) dX7_statement_28 ?_
    refine Ex_if_eq (tgt := 71) dX7_statement_31 (by decide) (fun c138 => ?_) (fun c138 => ?_)
    · have h := if_t h c138
      refine Ex_iload_n dX7_statement_71 rfl rfl ?_
      refine Ex_bipush (v := 64) dX7_statement_72 (by decide) ?_
      refine Ex_icmp_ne (tgt := 130) dX7_statement_74 (by decide) (fun c121 => ?_) (fun c121 => ?_)
      · have h := if_f h c121
        refine Ex_iload_n dX7_statement_130 rfl rfl ?_
        refine Ex_bipush (v := 43) dX7_statement_131 (by decide) ?_
        refine Ex_icmp_eq (tgt := 142) dX7_statement_133 (by decide) (fun c92 => ?_) (fun c92 => ?_)
        · have h := if_t h c92
          exact (Wm_statement_142 h).to rfl
        · have h := if_f h c92
          refine Ex_iload_n dX7_statement_136 rfl rfl ?_
          refine Ex_bipush (v := 33) dX7_statement_137 (by decide) ?_
          refine Ex_icmp_ne (tgt := 179) dX7_statement_139 (by decide) (fun c91 => ?_) (fun c91 => ?_)
          · have h := if_f h c91
            refine Ex_iload_n dX7_statement_179 rfl rfl ?_
            refine Ex_bipush (v := 38) dX7_statement_180 (by decide) ?_
            refine Ex_icmp_ne (tgt := 195) dX7_statement_182 (by decide) (fun c90 => ?_) (fun c90 => ?_)
            · have h := if_f h c90
              refine Ex_iload_n dX7_statement_195 rfl rfl ?_
              refine Ex_bipush (v := 95) dX7_statement_196 (by decide) ?_
              refine Ex_icmp_ne (tgt := 217) dX7_statement_198 (by decide) (fun c85 => ?_) (fun c85 => ?_)
              · have h := if_f h c85
                refine Ex_iload_n dX7_statement_217 rfl rfl ?_
                refine Ex_bipush (v := 42) dX7_statement_218 (by decide) ?_
                refine Ex_icmp_ne (tgt := 246) dX7_statement_220 (by decide) (fun c76 => ?_) (fun c76 => ?_)
                · have h := if_f h c76
                  exact (Wm_statement_246 h).to rfl
                · have h := if_t h c76
                  refine Ex_aload_n dX7_statement_223 rfl rfl ?_
                  refine Em_getA (j := 11) FO_X7_47 rfl rfl dX7_statement_224 ?_
                  refine Ex_aload_n dX7_statement_227 rfl rfl ?_
                  refine Em_get FO_X7_226 rfl dX7_statement_228 ?_
                  refine Ex_aload_n dX7_statement_231 rfl rfl ?_
                  refine Em_get FO_X7_183 rfl dX7_statement_232 ?_
                  obtain ⟨hb75, h⟩ := chk_some h
                  refine Em_iast (by decide) rfl hb75 dX7_statement_235 ?_
                  refine Ex_aload_n dX7_statement_236 rfl rfl ?_
                  refine Ex_dup dX7_statement_237 rfl ?_
                  refine Em_get FO_X7_226 rfl dX7_statement_238 ?_
                  refine Ex_iconst (v := 1) dX7_statement_241 (by decide) ?_
                  refine Ex_iadd dX7_statement_242 ?_
                  refine Em_put FW_X7_226 rfl rfl rfl dX7_statement_243 ?_
                  exact (Wm_statement_246 h).to rfl
              · have h := if_t h c85
                refine Ex_aload_n dX7_statement_201 rfl rfl ?_
                refine Ex_sipush (v := 1011) dX7_statement_202 (by decide) ?_
                obtain ⟨r77, f78, a79, hc80, h⟩ := bnd_some h
                refine Em_callVv (C_m_push hc80) CV_X7_199 (by decide) rfl rfl (Nat.le_of_ble_eq_true rfl) dX7_statement_205 ?_
                refine Ex_aload_n dX7_statement_208 rfl rfl ?_
                refine Ex_bipush (v := 59) dX7_statement_209 (by decide) ?_
                obtain ⟨r81, f82, a83, hc84, h⟩ := bnd_some h
                refine Em_callVv (C_m_push hc84) CV_X7_199 (by decide) rfl rfl (Nat.le_of_ble_eq_true rfl) dX7_statement_211 ?_
                refine Ex_goto (tgt := 310) dX7_statement_214 (by decide) ?_
                cases h
                exact Ex_return rfl dX7_statement_310
            · have h := if_t h c90
              refine Ex_aload_n dX7_statement_185 rfl rfl ?_
              refine Ex_sipush (v := 218) dX7_statement_186 (by decide) ?_
              obtain ⟨r86, f87, a88, hc89, h⟩ := bnd_some h
              refine Em_callVv (C_m_push hc89) CV_X7_199 (by decide) rfl rfl (Nat.le_of_ble_eq_true rfl) dX7_statement_189 ?_
              refine Ex_goto (tgt := 310) dX7_statement_192 (by decide) ?_
              cases h
              exact Ex_return rfl dX7_statement_310
          · have h := if_t h c91
            exact (Wm_statement_142 h).to rfl
      · have h := if_t h c121
        refine Ex_aload_n dX7_statement_77 rfl rfl ?_
        refine Ex_sipush (v := 1006) dX7_statement_78 (by decide) ?_
        refine Ex_bipush (v := 16) dX7_statement_81 (by decide) ?_
        refine Ex_iload_n dX7_statement_83 rfl rfl ?_
        refine Ex_imul dX7_statement_84 ?_
        refine Ex_iadd dX7_statement_85 ?_
        obtain ⟨r93, f94, a95, hc96, h⟩ := bnd_some h
        refine Em_callVv (C_m_push hc96) CV_X7_199 (by decide) rfl rfl (Nat.le_of_ble_eq_true rfl) dX7_statement_86 ?_
        refine Ex_aload_n dX7_statement_89 rfl rfl ?_
        refine Ex_bipush (v := 59) dX7_statement_90 (by decide) ?_
        obtain ⟨r97, f98, a99, hc100, h⟩ := bnd_some h
        refine Em_callVv (C_m_push hc100) CV_X7_199 (by decide) rfl rfl (Nat.le_of_ble_eq_true rfl) dX7_statement_92 ?_
        refine Ex_aload_n dX7_statement_95 rfl rfl ?_
        refine Ex_sipush (v := 211) dX7_statement_96 (by decide) ?_
        obtain ⟨r101, f102, a103, hc104, h⟩ := bnd_some h
        refine Em_callVv (C_m_push hc104) CV_X7_199 (by decide) rfl rfl (Nat.le_of_ble_eq_true rfl) dX7_statement_99 ?_
        refine Ex_aload_n dX7_statement_102 rfl rfl ?_
        refine Ex_bipush (v := 61) dX7_statement_103 (by decide) ?_
        obtain ⟨r105, f106, a107, hc108, h⟩ := bnd_some h
        refine Em_callVv (C_m_push hc108) CV_X7_199 (by decide) rfl rfl (Nat.le_of_ble_eq_true rfl) dX7_statement_105 ?_
        refine Ex_aload_n dX7_statement_108 rfl rfl ?_
        refine Ex_bipush (v := 41) dX7_statement_109 (by decide) ?_
        obtain ⟨r109, f110, a111, hc112, h⟩ := bnd_some h
        refine Em_callVv (C_m_push hc112) CV_X7_199 (by decide) rfl rfl (Nat.le_of_ble_eq_true rfl) dX7_statement_111 ?_
        refine Ex_aload_n dX7_statement_114 rfl rfl ?_
        refine Ex_sipush (v := 211) dX7_statement_115 (by decide) ?_
        obtain ⟨r113, f114, a115, hc116, h⟩ := bnd_some h
        refine Em_callVv (C_m_push hc116) CV_X7_199 (by decide) rfl rfl (Nat.le_of_ble_eq_true rfl) dX7_statement_118 ?_
        refine Ex_aload_n dX7_statement_121 rfl rfl ?_
        refine Ex_bipush (v := 40) dX7_statement_122 (by decide) ?_
        obtain ⟨r117, f118, a119, hc120, h⟩ := bnd_some h
        refine Em_callVv (C_m_push hc120) CV_X7_199 (by decide) rfl rfl (Nat.le_of_ble_eq_true rfl) dX7_statement_124 ?_
        refine Ex_goto (tgt := 310) dX7_statement_127 (by decide) ?_
        cases h
        exact Ex_return rfl dX7_statement_310
    · have h := if_f h c138
      refine Ex_aload_n dX7_statement_34 rfl rfl ?_
      refine Ex_sipush (v := 1005) dX7_statement_35 (by decide) ?_
      refine Ex_bipush (v := 16) dX7_statement_38 (by decide) ?_
      refine Ex_iload_n dX7_statement_40 rfl rfl ?_
      refine Ex_bipush (v := 97) dX7_statement_41 (by decide) ?_
      refine Ex_isub dX7_statement_43 ?_
      refine Ex_imul dX7_statement_44 ?_
      refine Ex_iadd dX7_statement_45 ?_
      obtain ⟨r122, f123, a124, hc125, h⟩ := bnd_some h
      refine Em_callVv (C_m_push hc125) CV_X7_199 (by decide) rfl rfl (Nat.le_of_ble_eq_true rfl) dX7_statement_46 ?_
      refine Ex_aload_n dX7_statement_49 rfl rfl ?_
      refine Ex_bipush (v := 59) dX7_statement_50 (by decide) ?_
      obtain ⟨r126, f127, a128, hc129, h⟩ := bnd_some h
      refine Em_callVv (C_m_push hc129) CV_X7_199 (by decide) rfl rfl (Nat.le_of_ble_eq_true rfl) dX7_statement_52 ?_
      refine Ex_aload_n dX7_statement_55 rfl rfl ?_
      refine Ex_sipush (v := 211) dX7_statement_56 (by decide) ?_
      obtain ⟨r130, f131, a132, hc133, h⟩ := bnd_some h
      refine Em_callVv (C_m_push hc133) CV_X7_199 (by decide) rfl rfl (Nat.le_of_ble_eq_true rfl) dX7_statement_59 ?_
      refine Ex_aload_n dX7_statement_62 rfl rfl ?_
      refine Ex_bipush (v := 61) dX7_statement_63 (by decide) ?_
      obtain ⟨r134, f135, a136, hc137, h⟩ := bnd_some h
      refine Em_callVv (C_m_push hc137) CV_X7_199 (by decide) rfl rfl (Nat.le_of_ble_eq_true rfl) dX7_statement_65 ?_
      refine Ex_goto (tgt := 310) dX7_statement_68 (by decide) ?_
      cases h
      exact Ex_return rfl dX7_statement_310
  · have h := if_f h c143
    refine Ex_aload_n dX7_statement_17 rfl rfl ?_
    refine Ex_iconst (v := 0) dX7_statement_18 (by decide) ?_
    obtain ⟨r139, f140, a141, hc142, h⟩ := bnd_some h
    refine Em_callVv (C_m_called hc142) CV_X7_222 (by decide) rfl rfl (Nat.le_of_ble_eq_true rfl) dX7_statement_19 ?_
    cases h
    exact Ex_return rfl dX7_statement_22
theorem dX7_atom_0 : decode cX7_atom 0 = .ok (.aload_n 0, 1) := by decide +kernel
theorem dX7_atom_1 : decode cX7_atom 1 = .ok (.invokevirtual 166, 3) := by decide +kernel
theorem dX7_atom_4 : decode cX7_atom 4 = .ok (.istore_n 1, 1) := by decide +kernel
theorem dX7_atom_5 : decode cX7_atom 5 = .ok (.aload_n 0, 1) := by decide +kernel
theorem dX7_atom_6 : decode cX7_atom 6 = .ok (.getfield 160, 3) := by decide +kernel
theorem dX7_atom_9 : decode cX7_atom 9 = .ok (.istore_n 2, 1) := by decide +kernel
theorem dX7_atom_10 : decode cX7_atom 10 = .ok (.iload_n 1, 1) := by decide +kernel
theorem dX7_atom_11 : decode cX7_atom 11 = .ok (.bipush 45, 2) := by decide +kernel
theorem dX7_atom_13 : decode cX7_atom 13 = .ok (.if_icmp .ne 50, 3) := by decide +kernel
theorem dX7_atom_16 : decode cX7_atom 16 = .ok (.aload_n 0, 1) := by decide +kernel
theorem dX7_atom_17 : decode cX7_atom 17 = .ok (.getfield 229, 3) := by decide +kernel
theorem dX7_atom_20 : decode cX7_atom 20 = .ok (.bipush 10, 2) := by decide +kernel
theorem dX7_atom_22 : decode cX7_atom 22 = .ok (.if_icmp .ne 12, 3) := by decide +kernel
theorem dX7_atom_25 : decode cX7_atom 25 = .ok (.aload_n 0, 1) := by decide +kernel
theorem dX7_atom_26 : decode cX7_atom 26 = .ok (.aload_n 0, 1) := by decide +kernel
theorem dX7_atom_27 : decode cX7_atom 27 = .ok (.getfield 160, 3) := by decide +kernel
theorem dX7_atom_30 : decode cX7_atom 30 = .ok (.invokevirtual 173, 3) := by decide +kernel
theorem dX7_atom_33 : decode cX7_atom 33 = .ok (.return_, 1) := by decide +kernel
theorem dX7_atom_34 : decode cX7_atom 34 = .ok (.aload_n 0, 1) := by decide +kernel
theorem dX7_atom_35 : decode cX7_atom 35 = .ok (.dup, 1) := by decide +kernel
theorem dX7_atom_36 : decode cX7_atom 36 = .ok (.getfield 229, 3) := by decide +kernel
theorem dX7_atom_39 : decode cX7_atom 39 = .ok (.iconst 1, 1) := by decide +kernel
theorem dX7_atom_40 : decode cX7_atom 40 = .ok (.iadd, 1) := by decide +kernel
theorem dX7_atom_41 : decode cX7_atom 41 = .ok (.putfield 229, 3) := by decide +kernel
theorem dX7_atom_44 : decode cX7_atom 44 = .ok (.aload_n 0, 1) := by decide +kernel
theorem dX7_atom_45 : decode cX7_atom 45 = .ok (.invokevirtual 206, 3) := by decide +kernel
theorem dX7_atom_48 : decode cX7_atom 48 = .ok (.aload_n 0, 1) := by decide +kernel
theorem dX7_atom_49 : decode cX7_atom 49 = .ok (.sipush 1003, 3) := by decide +kernel
theorem dX7_atom_52 : decode cX7_atom 52 = .ok (.invokevirtual 199, 3) := by decide +kernel
theorem dX7_atom_55 : decode cX7_atom 55 = .ok (.aload_n 0, 1) := by decide +kernel
theorem dX7_atom_56 : decode cX7_atom 56 = .ok (.sipush 217, 3) := by decide +kernel
theorem dX7_atom_59 : decode cX7_atom 59 = .ok (.invokevirtual 199, 3) := by decide +kernel
theorem dX7_atom_62 : decode cX7_atom 62 = .ok (.return_, 1) := by decide +kernel
theorem dX7_atom_63 : decode cX7_atom 63 = .ok (.aload_n 0, 1) := by decide +kernel
theorem dX7_atom_64 : decode cX7_atom 64 = .ok (.iconst 0, 1) := by decide +kernel
theorem dX7_atom_65 : decode cX7_atom 65 = .ok (.putfield 229, 3) := by decide +kernel
theorem dX7_atom_68 : decode cX7_atom 68 = .ok (.iload_n 1, 1) := by decide +kernel
theorem dX7_atom_69 : decode cX7_atom 69 = .ok (.invokestatic 186, 3) := by decide +kernel
theorem dX7_atom_72 : decode cX7_atom 72 = .ok (.ifCond .eq 97, 3) := by decide +kernel
theorem dX7_atom_75 : decode cX7_atom 75 = .ok (.iconst 0, 1) := by decide +kernel
theorem dX7_atom_76 : decode cX7_atom 76 = .ok (.istore_n 3, 1) := by decide +kernel
theorem dX7_atom_77 : decode cX7_atom 77 = .ok (.iconst 0, 1) := by decide +kernel
theorem dX7_atom_78 : decode cX7_atom 78 = .ok (.istore 4, 2) := by decide +kernel
theorem dX7_atom_80 : decode cX7_atom 80 = .ok (.aload_n 0, 1) := by decide +kernel
theorem dX7_atom_81 : decode cX7_atom 81 = .ok (.getfield 160, 3) := by decide +kernel
theorem dX7_atom_84 : decode cX7_atom 84 = .ok (.aload_n 0, 1) := by decide +kernel
theorem dX7_atom_85 : decode cX7_atom 85 = .ok (.getfield 155, 3) := by decide +kernel
theorem dX7_atom_88 : decode cX7_atom 88 = .ok (.if_icmp .ge 67, 3) := by decide +kernel
theorem dX7_atom_91 : decode cX7_atom 91 = .ok (.aload_n 0, 1) := by decide +kernel
theorem dX7_atom_92 : decode cX7_atom 92 = .ok (.getfield 7, 3) := by decide +kernel
theorem dX7_atom_95 : decode cX7_atom 95 = .ok (.aload_n 0, 1) := by decide +kernel
theorem dX7_atom_96 : decode cX7_atom 96 = .ok (.getfield 160, 3) := by decide +kernel
theorem dX7_atom_99 : decode cX7_atom 99 = .ok (.iaload, 1) := by decide +kernel
theorem dX7_atom_100 : decode cX7_atom 100 = .ok (.invokestatic 186, 3) := by decide +kernel
theorem dX7_atom_103 : decode cX7_atom 103 = .ok (.ifCond .eq 52, 3) := by decide +kernel
theorem dX7_atom_106 : decode cX7_atom 106 = .ok (.iload 4, 2) := by decide +kernel
theorem dX7_atom_108 : decode cX7_atom 108 = .ok (.iconst 4, 1) := by decide +kernel
theorem dX7_atom_109 : decode cX7_atom 109 = .ok (.if_icmp .ne 12, 3) := by decide +kernel
theorem dX7_atom_112 : decode cX7_atom 112 = .ok (.aload_n 0, 1) := by decide +kernel
theorem dX7_atom_113 : decode cX7_atom 113 = .ok (.aload_n 0, 1) := by decide +kernel
theorem dX7_atom_114 : decode cX7_atom 114 = .ok (.getfield 160, 3) := by decide +kernel
theorem dX7_atom_117 : decode cX7_atom 117 = .ok (.invokevirtual 173, 3) := by decide +kernel
theorem dX7_atom_120 : decode cX7_atom 120 = .ok (.return_, 1) := by decide +kernel
theorem dX7_atom_121 : decode cX7_atom 121 = .ok (.bipush 10, 2) := by decide +kernel
theorem dX7_atom_123 : decode cX7_atom 123 = .ok (.iload_n 3, 1) := by decide +kernel
theorem dX7_atom_124 : decode cX7_atom 124 = .ok (.imul, 1) := by decide +kernel
theorem dX7_atom_125 : decode cX7_atom 125 = .ok (.aload_n 0, 1) := by decide +kernel
theorem dX7_atom_126 : decode cX7_atom 126 = .ok (.getfield 7, 3) := by decide +kernel
theorem dX7_atom_129 : decode cX7_atom 129 = .ok (.aload_n 0, 1) := by decide +kernel
theorem dX7_atom_130 : decode cX7_atom 130 = .ok (.getfield 160, 3) := by decide +kernel
theorem dX7_atom_133 : decode cX7_atom 133 = .ok (.iaload, 1) := by decide +kernel
theorem dX7_atom_134 : decode cX7_atom 134 = .ok (.iadd, 1) := by decide +kernel
theorem dX7_atom_135 : decode cX7_atom 135 = .ok (.bipush 48, 2) := by decide +kernel
theorem dX7_atom_137 : decode cX7_atom 137 = .ok (.isub, 1) := by decide +kernel
theorem dX7_atom_138 : decode cX7_atom 138 = .ok (.istore_n 3, 1) := by decide +kernel
theorem dX7_atom_139 : decode cX7_atom 139 = .ok (.iinc 4 1, 3) := by decide +kernel
theorem dX7_atom_142 : decode cX7_atom 142 = .ok (.aload_n 0, 1) := by decide +kernel
theorem dX7_atom_143 : decode cX7_atom 143 = .ok (.dup, 1) := by decide +kernel
theorem dX7_atom_144 : decode cX7_atom 144 = .ok (.getfield 160, 3) := by decide +kernel
theorem dX7_atom_147 : decode cX7_atom 147 = .ok (.iconst 1, 1) := by decide +kernel
theorem dX7_atom_148 : decode cX7_atom 148 = .ok (.iadd, 1) := by decide +kernel
theorem dX7_atom_149 : decode cX7_atom 149 = .ok (.putfield 160, 3) := by decide +kernel
theorem dX7_atom_152 : decode cX7_atom 152 = .ok (.goto (-72), 3) := by decide +kernel
theorem dX7_atom_155 : decode cX7_atom 155 = .ok (.aload_n 0, 1) := by decide +kernel
theorem dX7_atom_156 : decode cX7_atom 156 = .ok (.invokevirtual 177, 3) := by decide +kernel
theorem dX7_atom_159 : decode cX7_atom 159 = .ok (.aload_n 0, 1) := by decide +kernel
theorem dX7_atom_160 : decode cX7_atom 160 = .ok (.iconst 0, 1) := by decide +kernel
theorem dX7_atom_161 : decode cX7_atom 161 = .ok (.iload_n 3, 1) := by decide +kernel
theorem dX7_atom_162 : decode cX7_atom 162 = .ok (.iconst 0, 1) := by decide +kernel
theorem dX7_atom_163 : decode cX7_atom 163 = .ok (.invokevirtual 232, 3) := by decide +kernel
theorem dX7_atom_166 : decode cX7_atom 166 = .ok (.goto 91, 3) := by decide +kernel
theorem dX7_atom_169 : decode cX7_atom 169 = .ok (.iload_n 1, 1) := by decide +kernel
theorem dX7_atom_170 : decode cX7_atom 170 = .ok (.invokestatic 190, 3) := by decide +kernel
theorem dX7_atom_173 : decode cX7_atom 173 = .ok (.ifCond .eq 20, 3) := by decide +kernel
theorem dX7_atom_176 : decode cX7_atom 176 = .ok (.aload_n 0, 1) := by decide +kernel
theorem dX7_atom_177 : decode cX7_atom 177 = .ok (.invokevirtual 206, 3) := by decide +kernel
theorem dX7_atom_180 : decode cX7_atom 180 = .ok (.aload_n 0, 1) := by decide +kernel
theorem dX7_atom_181 : decode cX7_atom 181 = .ok (.iconst 1, 1) := by decide +kernel
theorem dX7_atom_182 : decode cX7_atom 182 = .ok (.iload_n 1, 1) := by decide +kernel
theorem dX7_atom_183 : decode cX7_atom 183 = .ok (.bipush 97, 2) := by decide +kernel
theorem dX7_atom_185 : decode cX7_atom 185 = .ok (.isub, 1) := by decide +kernel
theorem dX7_atom_186 : decode cX7_atom 186 = .ok (.iconst 0, 1) := by decide +kernel
theorem dX7_atom_187 : decode cX7_atom 187 = .ok (.invokevirtual 232, 3) := by decide +kernel
theorem dX7_atom_190 : decode cX7_atom 190 = .ok (.goto 67, 3) := by decide +kernel
theorem dX7_atom_193 : decode cX7_atom 193 = .ok (.iload_n 1, 1) := by decide +kernel
theorem dX7_atom_194 : decode cX7_atom 194 = .ok (.bipush 64, 2) := by decide +kernel
theorem dX7_atom_196 : decode cX7_atom 196 = .ok (.if_icmp .eq 9, 3) := by decide +kernel
theorem dX7_atom_199 : decode cX7_atom 199 = .ok (.iload_n 1, 1) := by decide +kernel
theorem dX7_atom_200 : decode cX7_atom 200 = .ok (.bipush 40, 2) := by decide +kernel
theorem dX7_atom_202 : decode cX7_atom 202 = .ok (.if_icmp .ne 47, 3) := by decide +kernel
theorem dX7_atom_205 : decode cX7_atom 205 = .ok (.iload_n 1, 1) := by decide +kernel
theorem dX7_atom_206 : decode cX7_atom 206 = .ok (.bipush 64, 2) := by decide +kernel
theorem dX7_atom_208 : decode cX7_atom 208 = .ok (.if_icmp .ne 19, 3) := by decide +kernel
theorem dX7_atom_211 : decode cX7_atom 211 = .ok (.aload_n 0, 1) := by decide +kernel
theorem dX7_atom_212 : decode cX7_atom 212 = .ok (.invokevirtual 206, 3) := by decide +kernel
theorem dX7_atom_215 : decode cX7_atom 215 = .ok (.aload_n 0, 1) := by decide +kernel
theorem dX7_atom_216 : decode cX7_atom 216 = .ok (.sipush 1004, 3) := by decide +kernel
theorem dX7_atom_219 : decode cX7_atom 219 = .ok (.bipush 16, 2) := by decide +kernel
theorem dX7_atom_221 : decode cX7_atom 221 = .ok (.iload_n 2, 1) := by decide +kernel
theorem dX7_atom_222 : decode cX7_atom 222 = .ok (.imul, 1) := by decide +kernel
theorem dX7_atom_223 : decode cX7_atom 223 = .ok (.iadd, 1) := by decide +kernel
theorem dX7_atom_224 : decode cX7_atom 224 = .ok (.invokevirtual 199, 3) := by decide +kernel
theorem dX7_atom_227 : decode cX7_atom 227 = .ok (.aload_n 0, 1) := by decide +kernel
theorem dX7_atom_228 : decode cX7_atom 228 = .ok (.bipush 41, 2) := by decide +kernel
theorem dX7_atom_230 : decode cX7_atom 230 = .ok (.invokevirtual 199, 3) := by decide +kernel
theorem dX7_atom_233 : decode cX7_atom 233 = .ok (.aload_n 0, 1) := by decide +kernel
theorem dX7_atom_234 : decode cX7_atom 234 = .ok (.sipush 211, 3) := by decide +kernel
theorem dX7_atom_237 : decode cX7_atom 237 = .ok (.invokevirtual 199, 3) := by decide +kernel
theorem dX7_atom_240 : decode cX7_atom 240 = .ok (.aload_n 0, 1) := by decide +kernel
theorem dX7_atom_241 : decode cX7_atom 241 = .ok (.bipush 40, 2) := by decide +kernel
theorem dX7_atom_243 : decode cX7_atom 243 = .ok (.invokevirtual 199, 3) := by decide +kernel
theorem dX7_atom_246 : decode cX7_atom 246 = .ok (.goto 11, 3) := by decide +kernel
theorem dX7_atom_249 : decode cX7_atom 249 = .ok (.aload_n 0, 1) := by decide +kernel
theorem dX7_atom_250 : decode cX7_atom 250 = .ok (.aload_n 0, 1) := by decide +kernel
theorem dX7_atom_251 : decode cX7_atom 251 = .ok (.getfield 160, 3) := by decide +kernel
theorem dX7_atom_254 : decode cX7_atom 254 = .ok (.invokevirtual 173, 3) := by decide +kernel
theorem dX7_atom_257 : decode cX7_atom 257 = .ok (.return_, 1) := by decide +kernel
set_option maxHeartbeats 4000000 in
theorem Wm_atom_205 {Γ : GT} {m sz : Nat} {x1 : Int32} {x2 : Int32} {f : MF} {a : MA} {rz : Int32} {fz : MF} {az : MA} (h : m_atom_205 x1 x2 f a = some (rz, fz, az)) : Ex Γ JX7_atom 3 205 [(0, .ref m), (1, .int x1), (2, .int x2)] [] (mixM m f a sz) 0 0 (.returned none, mixM m fz az sz) := by
  unfold m_atom_205 at h
  refine Ex_iload_n dX7_atom_205 rfl rfl ?_
  refine Ex_bipush (v := 64) dX7_atom_206 (by decide) ?_
  refine Ex_icmp_ne (tgt := 227) dX7_atom_208 (by decide) (fun c45 => ?_) (fun c45 => ?_)
  · have h := if_f h c45
    refine Ex_aload_n dX7_atom_227 rfl rfl ?_
    refine Ex_bipush (v := 41) dX7_atom_228 (by decide) ?_
    obtain ⟨r13, f14, a15, hc16, h⟩ := bnd_some h
    refine Em_callVv (C_m_push hc16) CV_X7_199 (by decide) rfl rfl (Nat.le_of_ble_eq_true rfl) dX7_atom_230 ?_
    refine Ex_aload_n dX7_atom_233 rfl rfl ?_
    refine Ex_sipush (v := 211) dX7_atom_234 (by decide) ?_
    obtain ⟨r17, f18, a19, hc20, h⟩ := bnd_some h
    refine Em_callVv (C_m_push hc20) CV_X7_199 (by decide) rfl rfl (Nat.le_of_ble_eq_true rfl) dX7_atom_237 ?_
    refine Ex_aload_n dX7_atom_240 rfl rfl ?_
    refine Ex_bipush (v := 40) dX7_atom_241 (by decide) ?_
    obtain ⟨r21, f22, a23, hc24, h⟩ := bnd_some h
    refine Em_callVv (C_m_push hc24) CV_X7_199 (by decide) rfl rfl (Nat.le_of_ble_eq_true rfl) dX7_atom_243 ?_
    refine Ex_goto (tgt := 257) dX7_atom_246 (by decide) ?_
    cases h
    exact Ex_return rfl dX7_atom_257
  · have h := if_t h c45
    refine Ex_aload_n dX7_atom_211 rfl rfl ?_
    obtain ⟨r25, f26, a27, hc28, h⟩ := bnd_some h
    refine Em_callVv (C_m_take hc28) CV_X7_206 (by decide) rfl rfl (Nat.le_of_ble_eq_true rfl) dX7_atom_212 ?_
    refine Ex_aload_n dX7_atom_215 rfl rfl ?_
    refine Ex_sipush (v := 1004) dX7_atom_216 (by decide) ?_
    refine Ex_bipush (v := 16) dX7_atom_219 (by decide) ?_
    refine Ex_iload_n dX7_atom_221 rfl rfl ?_
    refine Ex_imul dX7_atom_222 ?_
    refine Ex_iadd dX7_atom_223 ?_
    obtain ⟨r29, f30, a31, hc32, h⟩ := bnd_some h
    refine Em_callVv (C_m_push hc32) CV_X7_199 (by decide) rfl rfl (Nat.le_of_ble_eq_true rfl) dX7_atom_224 ?_
    refine Ex_aload_n dX7_atom_227 rfl rfl ?_
    refine Ex_bipush (v := 41) dX7_atom_228 (by decide) ?_
    obtain ⟨r33, f34, a35, hc36, h⟩ := bnd_some h
    refine Em_callVv (C_m_push hc36) CV_X7_199 (by decide) rfl rfl (Nat.le_of_ble_eq_true rfl) dX7_atom_230 ?_
    refine Ex_aload_n dX7_atom_233 rfl rfl ?_
    refine Ex_sipush (v := 211) dX7_atom_234 (by decide) ?_
    obtain ⟨r37, f38, a39, hc40, h⟩ := bnd_some h
    refine Em_callVv (C_m_push hc40) CV_X7_199 (by decide) rfl rfl (Nat.le_of_ble_eq_true rfl) dX7_atom_237 ?_
    refine Ex_aload_n dX7_atom_240 rfl rfl ?_
    refine Ex_bipush (v := 40) dX7_atom_241 (by decide) ?_
    obtain ⟨r41, f42, a43, hc44, h⟩ := bnd_some h
    refine Em_callVv (C_m_push hc44) CV_X7_199 (by decide) rfl rfl (Nat.le_of_ble_eq_true rfl) dX7_atom_243 ?_
    refine Ex_goto (tgt := 257) dX7_atom_246 (by decide) ?_
    cases h
    exact Ex_return rfl dX7_atom_257
set_option maxHeartbeats 4000000 in
theorem Wm_atom_80 {Γ : GT} {m sz : Nat} : ∀ (n : Nat) {x3 : Int32} {x4 : Int32} {f : MF} {a : MA} {rz : Int32} {fz : MF} {az : MA} (h : m_atom_80 n x3 x4 f a = some (rz, fz, az)), Ex Γ JX7_atom 3 80 [(0, .ref m), (3, .int x3), (4, .int x4)] [] (mixM m f a sz) 0 0 (.returned none, mixM m fz az sz) := by
  intro n
  induction n with
  | zero => intro x3 x4 f a rz fz az h; cases h
  | succ n ih =>
    intro x3 x4 f a rz fz az h
    rw [m_atom_80] at h
    refine Ex_aload_n dX7_atom_80 rfl rfl ?_
    refine Em_get FO_X7_160 rfl dX7_atom_81 ?_
    refine Ex_aload_n dX7_atom_84 rfl rfl ?_
    refine Em_get FO_X7_155 rfl dX7_atom_85 ?_
    refine Ex_icmp_ge (tgt := 155) dX7_atom_88 (by decide) (fun c89 => ?_) (fun c89 => ?_)
    · have h := if_t h c89
      refine Ex_aload_n dX7_atom_155 rfl rfl ?_
      obtain ⟨r61, f62, a63, hc64, h⟩ := bnd_some h
      refine Em_callVv (C_m_skip hc64) CV_X7_177 (by decide) rfl rfl (Nat.le_of_ble_eq_true rfl) dX7_atom_156 ?_
      refine Ex_aload_n dX7_atom_159 rfl rfl ?_
      refine Ex_iconst (v := 0) dX7_atom_160 (by decide) ?_
      refine Ex_iload_n dX7_atom_161 rfl rfl ?_
      refine Ex_iconst (v := 0) dX7_atom_162 (by decide) ?_
      obtain ⟨r65, f66, a67, hc68, h⟩ := bnd_some h
      refine Em_callVv (C_m_emit hc68) CV_X7_232 (by decide) rfl rfl (Nat.le_of_ble_eq_true rfl) dX7_atom_163 ?_
      refine Ex_goto (tgt := 257) dX7_atom_166 (by decide) ?_
      cases h
      exact Ex_return rfl dX7_atom_257
    · have h := if_f h c89
      refine Ex_aload_n dX7_atom_91 rfl rfl ?_
      refine Em_getA (j := 0) FO_X7_7 rfl rfl dX7_atom_92 ?_
      refine Ex_aload_n dX7_atom_95 rfl rfl ?_
      refine Em_get FO_X7_160 rfl dX7_atom_96 ?_
      obtain ⟨hb69, h⟩ := chk_some h
      refine Em_iald (by decide) rfl hb69 dX7_atom_99 ?_
      obtain ⟨r70, f71, a72, hc73, h⟩ := bnd_some h
      refine Em_callSi (C_m_isDigit hc73) CS_X7_186 (by decide) rfl rfl (Nat.le_of_ble_eq_true rfl) dX7_atom_100 ?_
      refine Ex_if_eq (tgt := 155) dX7_atom_103 (by decide) (fun c88 => ?_) (fun c88 => ?_)
      · have h := if_t h c88
        refine Ex_aload_n dX7_atom_155 rfl rfl ?_
        obtain ⟨r74, f75, a76, hc77, h⟩ := bnd_some h
        refine Em_callVv (C_m_skip hc77) CV_X7_177 (by decide) rfl rfl (Nat.le_of_ble_eq_true rfl) dX7_atom_156 ?_
        refine Ex_aload_n dX7_atom_159 rfl rfl ?_
        refine Ex_iconst (v := 0) dX7_atom_160 (by decide) ?_
        refine Ex_iload_n dX7_atom_161 rfl rfl ?_
        refine Ex_iconst (v := 0) dX7_atom_162 (by decide) ?_
        obtain ⟨r78, f79, a80, hc81, h⟩ := bnd_some h
        refine Em_callVv (C_m_emit hc81) CV_X7_232 (by decide) rfl rfl (Nat.le_of_ble_eq_true rfl) dX7_atom_163 ?_
        refine Ex_goto (tgt := 257) dX7_atom_166 (by decide) ?_
        cases h
        exact Ex_return rfl dX7_atom_257
      · have h := if_f h c88
        refine Ex_iload dX7_atom_106 rfl ?_
        refine Ex_iconst (v := 4) dX7_atom_108 (by decide) ?_
        refine Ex_icmp_ne (tgt := 121) dX7_atom_109 (by decide) (fun c87 => ?_) (fun c87 => ?_)
        · have h := if_f h c87
          refine Ex_bipush (v := 10) dX7_atom_121 (by decide) ?_
          refine Ex_iload_n dX7_atom_123 rfl rfl ?_
          refine Ex_imul dX7_atom_124 ?_
          refine Ex_aload_n dX7_atom_125 rfl rfl ?_
          refine Em_getA (j := 0) FO_X7_7 rfl rfl dX7_atom_126 ?_
          refine Ex_aload_n dX7_atom_129 rfl rfl ?_
          refine Em_get FO_X7_160 rfl dX7_atom_130 ?_
          obtain ⟨hb82, h⟩ := chk_some h
          refine Em_iald (by decide) rfl hb82 dX7_atom_133 ?_
          refine Ex_iadd dX7_atom_134 ?_
          refine Ex_bipush (v := 48) dX7_atom_135 (by decide) ?_
          refine Ex_isub dX7_atom_137 ?_
          refine Ex_istore_n dX7_atom_138 rfl (by decide) ?_
          refine Ex_iinc (v := 1) dX7_atom_139 rfl (by decide) (by decide) ?_
          refine Ex_aload_n dX7_atom_142 rfl rfl ?_
          refine Ex_dup dX7_atom_143 rfl ?_
          refine Em_get FO_X7_160 rfl dX7_atom_144 ?_
          refine Ex_iconst (v := 1) dX7_atom_147 (by decide) ?_
          refine Ex_iadd dX7_atom_148 ?_
          refine Em_put FW_X7_160 rfl rfl rfl dX7_atom_149 ?_
          refine Ex_goto (tgt := 80) dX7_atom_152 (by decide) ?_
          exact (ih h).to rfl
        · have h := if_t h c87
          refine Ex_aload_n dX7_atom_112 rfl rfl ?_
          refine Ex_aload_n dX7_atom_113 rfl rfl ?_
          refine Em_get FO_X7_160 rfl dX7_atom_114 ?_
          obtain ⟨r83, f84, a85, hc86, h⟩ := bnd_some h
          refine Em_callVv (C_m_refuse hc86) CV_X7_173 (by decide) rfl rfl (Nat.le_of_ble_eq_true rfl) dX7_atom_117 ?_
          cases h
          exact Ex_return rfl dX7_atom_120
set_option maxHeartbeats 4000000 in
theorem C_m_atom {Γ : GT} {m sz : Nat} {f : MF} {a : MA} {rz : Int32} {fz : MF} {az : MA} (h : m_atom f a = some (rz, fz, az)) : CM Γ JX7_atom 3 [.ref m] (mixM m f a sz) 0 0 (.returned none, mixM m fz az sz) := by
  refine CM.of (by decide +kernel) (Nat.le_of_ble_eq_true rfl) ?_
  unfold m_atom at h
  show Ex Γ JX7_atom 3 0 [(0, .ref m)] [] (mixM m f a sz) 0 0 _
  refine Ex_aload_n dX7_atom_0 rfl rfl ?_
  obtain ⟨r1, f2, a3, hc4, h⟩ := bnd_some h
  refine Em_callVi (C_m_here hc4) CV_X7_166 (by decide) rfl rfl (Nat.le_of_ble_eq_true rfl) dX7_atom_1 ?_
  refine Ex_istore_n dX7_atom_4 rfl (by decide) ?_
  refine Ex_aload_n dX7_atom_5 rfl rfl ?_
  refine Em_get FO_X7_160 rfl dX7_atom_6 ?_
  refine Ex_istore_n dX7_atom_9 rfl (by decide) ?_
  refine Ex_iload_n dX7_atom_10 rfl rfl ?_
  refine Ex_bipush (v := 45) dX7_atom_11 (by decide) ?_
  refine Ex_icmp_ne (tgt := 63) dX7_atom_13 (by decide) (fun c108 => ?_) (fun c108 => ?_)
  · have h := if_f h c108
    refine Ex_aload_n dX7_atom_63 rfl rfl ?_
    refine Ex_iconst (v := 0) dX7_atom_64 (by decide) ?_
    refine Em_put FW_X7_229 rfl rfl rfl dX7_atom_65 ?_
    refine Ex_iload_n dX7_atom_68 rfl rfl ?_
    obtain ⟨r5, f6, a7, hc8, h⟩ := bnd_some h
    refine Em_callSi (C_m_isDigit hc8) CS_X7_186 (by decide) rfl rfl (Nat.le_of_ble_eq_true rfl) dX7_atom_69 ?_
    refine Ex_if_eq (tgt := 169) dX7_atom_72 (by decide) (fun c90 => ?_) (fun c90 => ?_)
    · have h := if_t h c90
      refine Ex_iload_n dX7_atom_169 rfl rfl ?_
      obtain ⟨r9, f10, a11, hc12, h⟩ := bnd_some h
      refine Em_callSi (C_m_isVariable hc12) CS_X7_190 (by decide) rfl rfl (Nat.le_of_ble_eq_true rfl) dX7_atom_170 ?_
      refine Ex_if_eq (tgt := 193) dX7_atom_173 (by decide) (fun c60 => ?_) (fun c60 => ?_)
      · have h := if_t h c60
        refine Ex_iload_n dX7_atom_193 rfl rfl ?_
        refine Ex_bipush (v := 64) dX7_atom_194 (by decide) ?_
        refine Ex_icmp_eq (tgt := 205) dX7_atom_196 (by decide) (fun c51 => ?_) (fun c51 => ?_)
        · have h := if_t h c51
          exact (Wm_atom_205 h).to rfl
        · have h := if_f h c51
          refine Ex_iload_n dX7_atom_199 rfl rfl ?_
          refine Ex_bipush (v := 40) dX7_atom_200 (by decide) ?_
          refine Ex_icmp_ne (tgt := 249) dX7_atom_202 (by decide) (fun c50 => ?_) (fun c50 => ?_)
          · have h := if_f h c50
            refine Ex_aload_n dX7_atom_249 rfl rfl ?_
            refine Ex_aload_n dX7_atom_250 rfl rfl ?_
            refine Em_get FO_X7_160 rfl dX7_atom_251 ?_
            obtain ⟨r46, f47, a48, hc49, h⟩ := bnd_some h
            refine Em_callVv (C_m_refuse hc49) CV_X7_173 (by decide) rfl rfl (Nat.le_of_ble_eq_true rfl) dX7_atom_254 ?_
            cases h
            exact Ex_return rfl dX7_atom_257
          · have h := if_t h c50
            exact (Wm_atom_205 h).to rfl
      · have h := if_f h c60
        refine Ex_aload_n dX7_atom_176 rfl rfl ?_
        obtain ⟨r52, f53, a54, hc55, h⟩ := bnd_some h
        refine Em_callVv (C_m_take hc55) CV_X7_206 (by decide) rfl rfl (Nat.le_of_ble_eq_true rfl) dX7_atom_177 ?_
        refine Ex_aload_n dX7_atom_180 rfl rfl ?_
        refine Ex_iconst (v := 1) dX7_atom_181 (by decide) ?_
        refine Ex_iload_n dX7_atom_182 rfl rfl ?_
        refine Ex_bipush (v := 97) dX7_atom_183 (by decide) ?_
        refine Ex_isub dX7_atom_185 ?_
        refine Ex_iconst (v := 0) dX7_atom_186 (by decide) ?_
        obtain ⟨r56, f57, a58, hc59, h⟩ := bnd_some h
        refine Em_callVv (C_m_emit hc59) CV_X7_232 (by decide) rfl rfl (Nat.le_of_ble_eq_true rfl) dX7_atom_187 ?_
        refine Ex_goto (tgt := 257) dX7_atom_190 (by decide) ?_
        cases h
        exact Ex_return rfl dX7_atom_257
    · have h := if_f h c90
      refine Ex_iconst (v := 0) dX7_atom_75 (by decide) ?_
      refine Ex_istore_n dX7_atom_76 rfl (by decide) ?_
      refine Ex_iconst (v := 0) dX7_atom_77 (by decide) ?_
      refine Ex_istore dX7_atom_78 (by decide) ?_
      exact (Wm_atom_80 _ h).to rfl
  · have h := if_t h c108
    refine Ex_aload_n dX7_atom_16 rfl rfl ?_
    refine Em_get FO_X7_229 rfl dX7_atom_17 ?_
    refine Ex_bipush (v := 10) dX7_atom_20 (by decide) ?_
    refine Ex_icmp_ne (tgt := 34) dX7_atom_22 (by decide) (fun c107 => ?_) (fun c107 => ?_)
    · have h := if_f h c107
      refine Ex_aload_n dX7_atom_34 rfl rfl ?_
      refine Ex_dup dX7_atom_35 rfl ?_
      refine Em_get FO_X7_229 rfl dX7_atom_36 ?_
      refine Ex_iconst (v := 1) dX7_atom_39 (by decide) ?_
      refine Ex_iadd dX7_atom_40 ?_
      refine Em_put FW_X7_229 rfl rfl rfl dX7_atom_41 ?_
      refine Ex_aload_n dX7_atom_44 rfl rfl ?_
      obtain ⟨r91, f92, a93, hc94, h⟩ := bnd_some h
      refine Em_callVv (C_m_take hc94) CV_X7_206 (by decide) rfl rfl (Nat.le_of_ble_eq_true rfl) dX7_atom_45 ?_
      refine Ex_aload_n dX7_atom_48 rfl rfl ?_
      refine Ex_sipush (v := 1003) dX7_atom_49 (by decide) ?_
      obtain ⟨r95, f96, a97, hc98, h⟩ := bnd_some h
      refine Em_callVv (C_m_push hc98) CV_X7_199 (by decide) rfl rfl (Nat.le_of_ble_eq_true rfl) dX7_atom_52 ?_
      refine Ex_aload_n dX7_atom_55 rfl rfl ?_
      refine Ex_sipush (v := 217) dX7_atom_56 (by decide) ?_
      obtain ⟨r99, f100, a101, hc102, h⟩ := bnd_some h
      refine Em_callVv (C_m_push hc102) CV_X7_199 (by decide) rfl rfl (Nat.le_of_ble_eq_true rfl) dX7_atom_59 ?_
      cases h
      exact Ex_return rfl dX7_atom_62
    · have h := if_t h c107
      refine Ex_aload_n dX7_atom_25 rfl rfl ?_
      refine Ex_aload_n dX7_atom_26 rfl rfl ?_
      refine Em_get FO_X7_160 rfl dX7_atom_27 ?_
      obtain ⟨r103, f104, a105, hc106, h⟩ := bnd_some h
      refine Em_callVv (C_m_refuse hc106) CV_X7_173 (by decide) rfl rfl (Nat.le_of_ble_eq_true rfl) dX7_atom_30 ?_
      cases h
      exact Ex_return rfl dX7_atom_33
theorem dX7_between_0 : decode cX7_between 0 = .ok (.iload_n 2, 1) := by decide +kernel
theorem dX7_between_1 : decode cX7_between 1 = .ok (.ifCond .ne 4, 3) := by decide +kernel
theorem dX7_between_4 : decode cX7_between 4 = .ok (.return_, 1) := by decide +kernel
theorem dX7_between_5 : decode cX7_between 5 = .ok (.aload_n 0, 1) := by decide +kernel
theorem dX7_between_6 : decode cX7_between 6 = .ok (.iconst 0, 1) := by decide +kernel
theorem dX7_between_7 : decode cX7_between 7 = .ok (.putfield 229, 3) := by decide +kernel
theorem dX7_between_10 : decode cX7_between 10 = .ok (.aload_n 0, 1) := by decide +kernel
theorem dX7_between_11 : decode cX7_between 11 = .ok (.invokevirtual 206, 3) := by decide +kernel
theorem dX7_between_14 : decode cX7_between 14 = .ok (.iload 4, 2) := by decide +kernel
theorem dX7_between_16 : decode cX7_between 16 = .ok (.ifCond .eq 9, 3) := by decide +kernel
theorem dX7_between_19 : decode cX7_between 19 = .ok (.aload_n 0, 1) := by decide +kernel
theorem dX7_between_20 : decode cX7_between 20 = .ok (.iload 4, 2) := by decide +kernel
theorem dX7_between_22 : decode cX7_between 22 = .ok (.invokevirtual 199, 3) := by decide +kernel
theorem dX7_between_25 : decode cX7_between 25 = .ok (.aload_n 0, 1) := by decide +kernel
theorem dX7_between_26 : decode cX7_between 26 = .ok (.sipush 1002, 3) := by decide +kernel
theorem dX7_between_29 : decode cX7_between 29 = .ok (.bipush 16, 2) := by decide +kernel
theorem dX7_between_31 : decode cX7_between 31 = .ok (.iload_n 1, 1) := by decide +kernel
theorem dX7_between_32 : decode cX7_between 32 = .ok (.imul, 1) := by decide +kernel
theorem dX7_between_33 : decode cX7_between 33 = .ok (.iadd, 1) := by decide +kernel
theorem dX7_between_34 : decode cX7_between 34 = .ok (.invokevirtual 199, 3) := by decide +kernel
theorem dX7_between_37 : decode cX7_between 37 = .ok (.aload_n 0, 1) := by decide +kernel
theorem dX7_between_38 : decode cX7_between 38 = .ok (.iload_n 3, 1) := by decide +kernel
theorem dX7_between_39 : decode cX7_between 39 = .ok (.invokevirtual 199, 3) := by decide +kernel
theorem dX7_between_42 : decode cX7_between 42 = .ok (.return_, 1) := by decide +kernel
set_option maxHeartbeats 4000000 in
theorem C_m_between {Γ : GT} {m sz : Nat} {x1 : Int32} {x2 : Int32} {x3 : Int32} {x4 : Int32} {f : MF} {a : MA} {rz : Int32} {fz : MF} {az : MA} (h : m_between x1 x2 x3 x4 f a = some (rz, fz, az)) : CM Γ JX7_between 3 [.ref m, .int x1, .int x2, .int x3, .int x4] (mixM m f a sz) 0 0 (.returned none, mixM m fz az sz) := by
  refine CM.of (by decide +kernel) (Nat.le_of_ble_eq_true rfl) ?_
  unfold m_between at h
  show Ex Γ JX7_between 3 0 [(0, .ref m), (1, .int x1), (2, .int x2), (3, .int x3), (4, .int x4)] [] (mixM m f a sz) 0 0 _
  refine Ex_iload_n dX7_between_0 rfl rfl ?_
  refine Ex_if_ne (tgt := 5) dX7_between_1 (by decide) (fun c26 => ?_) (fun c26 => ?_)
  · have h := if_f h c26
    refine Ex_aload_n dX7_between_5 rfl rfl ?_
    refine Ex_iconst (v := 0) dX7_between_6 (by decide) ?_
    refine Em_put FW_X7_229 rfl rfl rfl dX7_between_7 ?_
    refine Ex_aload_n dX7_between_10 rfl rfl ?_
    obtain ⟨r1, f2, a3, hc4, h⟩ := bnd_some h
    refine Em_callVv (C_m_take hc4) CV_X7_206 (by decide) rfl rfl (Nat.le_of_ble_eq_true rfl) dX7_between_11 ?_
    refine Ex_iload dX7_between_14 rfl ?_
    refine Ex_if_eq (tgt := 25) dX7_between_16 (by decide) (fun c25 => ?_) (fun c25 => ?_)
    · have h := if_t h c25
      refine Ex_aload_n dX7_between_25 rfl rfl ?_
      refine Ex_sipush (v := 1002) dX7_between_26 (by decide) ?_
      refine Ex_bipush (v := 16) dX7_between_29 (by decide) ?_
      refine Ex_iload_n dX7_between_31 rfl rfl ?_
      refine Ex_imul dX7_between_32 ?_
      refine Ex_iadd dX7_between_33 ?_
      obtain ⟨r5, f6, a7, hc8, h⟩ := bnd_some h
      refine Em_callVv (C_m_push hc8) CV_X7_199 (by decide) rfl rfl (Nat.le_of_ble_eq_true rfl) dX7_between_34 ?_
      refine Ex_aload_n dX7_between_37 rfl rfl ?_
      refine Ex_iload_n dX7_between_38 rfl rfl ?_
      obtain ⟨r9, f10, a11, hc12, h⟩ := bnd_some h
      refine Em_callVv (C_m_push hc12) CV_X7_199 (by decide) rfl rfl (Nat.le_of_ble_eq_true rfl) dX7_between_39 ?_
      cases h
      exact Ex_return rfl dX7_between_42
    · have h := if_f h c25
      refine Ex_aload_n dX7_between_19 rfl rfl ?_
      refine Ex_iload dX7_between_20 rfl ?_
      obtain ⟨r13, f14, a15, hc16, h⟩ := bnd_some h
      refine Em_callVv (C_m_push hc16) CV_X7_199 (by decide) rfl rfl (Nat.le_of_ble_eq_true rfl) dX7_between_22 ?_
      refine Ex_aload_n dX7_between_25 rfl rfl ?_
      refine Ex_sipush (v := 1002) dX7_between_26 (by decide) ?_
      refine Ex_bipush (v := 16) dX7_between_29 (by decide) ?_
      refine Ex_iload_n dX7_between_31 rfl rfl ?_
      refine Ex_imul dX7_between_32 ?_
      refine Ex_iadd dX7_between_33 ?_
      obtain ⟨r17, f18, a19, hc20, h⟩ := bnd_some h
      refine Em_callVv (C_m_push hc20) CV_X7_199 (by decide) rfl rfl (Nat.le_of_ble_eq_true rfl) dX7_between_34 ?_
      refine Ex_aload_n dX7_between_37 rfl rfl ?_
      refine Ex_iload_n dX7_between_38 rfl rfl ?_
      obtain ⟨r21, f22, a23, hc24, h⟩ := bnd_some h
      refine Em_callVv (C_m_push hc24) CV_X7_199 (by decide) rfl rfl (Nat.le_of_ble_eq_true rfl) dX7_between_39 ?_
      cases h
      exact Ex_return rfl dX7_between_42
  · have h := if_t h c26
    cases h
    exact Ex_return rfl dX7_between_4
theorem dX7_patchTo_0 : decode cX7_patchTo 0 = .ok (.aload_n 0, 1) := by decide +kernel
theorem dX7_patchTo_1 : decode cX7_patchTo 1 = .ok (.getfield 32, 3) := by decide +kernel
theorem dX7_patchTo_4 : decode cX7_patchTo 4 = .ok (.iload_n 1, 1) := by decide +kernel
theorem dX7_patchTo_5 : decode cX7_patchTo 5 = .ok (.iload_n 2, 1) := by decide +kernel
theorem dX7_patchTo_6 : decode cX7_patchTo 6 = .ok (.iastore, 1) := by decide +kernel
theorem dX7_patchTo_7 : decode cX7_patchTo 7 = .ok (.return_, 1) := by decide +kernel
set_option maxHeartbeats 4000000 in
theorem C_m_patchTo {Γ : GT} {m sz : Nat} {x1 : Int32} {x2 : Int32} {f : MF} {a : MA} {rz : Int32} {fz : MF} {az : MA} (h : m_patchTo x1 x2 f a = some (rz, fz, az)) : CM Γ JX7_patchTo 1 [.ref m, .int x1, .int x2] (mixM m f a sz) 0 0 (.returned none, mixM m fz az sz) := by
  refine CM.of (by decide +kernel) (Nat.le_of_ble_eq_true rfl) ?_
  unfold m_patchTo at h
  show Ex Γ JX7_patchTo 1 0 [(0, .ref m), (1, .int x1), (2, .int x2)] [] (mixM m f a sz) 0 0 _
  refine Ex_aload_n dX7_patchTo_0 rfl rfl ?_
  refine Em_getA (j := 6) FO_X7_32 rfl rfl dX7_patchTo_1 ?_
  refine Ex_iload_n dX7_patchTo_4 rfl rfl ?_
  refine Ex_iload_n dX7_patchTo_5 rfl rfl ?_
  obtain ⟨hb1, h⟩ := chk_some h
  refine Em_iast (by decide) rfl hb1 dX7_patchTo_6 ?_
  cases h
  exact Ex_return rfl dX7_patchTo_7
theorem dX7_tested_0 : decode cX7_tested 0 = .ok (.aload_n 0, 1) := by decide +kernel
theorem dX7_tested_1 : decode cX7_tested 1 = .ok (.getfield 47, 3) := by decide +kernel
theorem dX7_tested_4 : decode cX7_tested 4 = .ok (.aload_n 0, 1) := by decide +kernel
theorem dX7_tested_5 : decode cX7_tested 5 = .ok (.getfield 226, 3) := by decide +kernel
theorem dX7_tested_8 : decode cX7_tested 8 = .ok (.aload_n 0, 1) := by decide +kernel
theorem dX7_tested_9 : decode cX7_tested 9 = .ok (.getfield 183, 3) := by decide +kernel
theorem dX7_tested_12 : decode cX7_tested 12 = .ok (.iastore, 1) := by decide +kernel
theorem dX7_tested_13 : decode cX7_tested 13 = .ok (.aload_n 0, 1) := by decide +kernel
theorem dX7_tested_14 : decode cX7_tested 14 = .ok (.dup, 1) := by decide +kernel
theorem dX7_tested_15 : decode cX7_tested 15 = .ok (.getfield 226, 3) := by decide +kernel
theorem dX7_tested_18 : decode cX7_tested 18 = .ok (.iconst 1, 1) := by decide +kernel
theorem dX7_tested_19 : decode cX7_tested 19 = .ok (.iadd, 1) := by decide +kernel
theorem dX7_tested_20 : decode cX7_tested 20 = .ok (.putfield 226, 3) := by decide +kernel
theorem dX7_tested_23 : decode cX7_tested 23 = .ok (.aload_n 0, 1) := by decide +kernel
theorem dX7_tested_24 : decode cX7_tested 24 = .ok (.bipush 12, 2) := by decide +kernel
theorem dX7_tested_26 : decode cX7_tested 26 = .ok (.iconst 0, 1) := by decide +kernel
theorem dX7_tested_27 : decode cX7_tested 27 = .ok (.iconst 0, 1) := by decide +kernel
theorem dX7_tested_28 : decode cX7_tested 28 = .ok (.invokevirtual 232, 3) := by decide +kernel
theorem dX7_tested_31 : decode cX7_tested 31 = .ok (.return_, 1) := by decide +kernel
set_option maxHeartbeats 4000000 in
theorem C_m_tested {Γ : GT} {m sz : Nat} {f : MF} {a : MA} {rz : Int32} {fz : MF} {az : MA} (h : m_tested f a = some (rz, fz, az)) : CM Γ JX7_tested 2 [.ref m] (mixM m f a sz) 0 0 (.returned none, mixM m fz az sz) := by
  refine CM.of (by decide +kernel) (Nat.le_of_ble_eq_true rfl) ?_
  unfold m_tested at h
  show Ex Γ JX7_tested 2 0 [(0, .ref m)] [] (mixM m f a sz) 0 0 _
  refine Ex_aload_n dX7_tested_0 rfl rfl ?_
  refine Em_getA (j := 11) FO_X7_47 rfl rfl dX7_tested_1 ?_
  refine Ex_aload_n dX7_tested_4 rfl rfl ?_
  refine Em_get FO_X7_226 rfl dX7_tested_5 ?_
  refine Ex_aload_n dX7_tested_8 rfl rfl ?_
  refine Em_get FO_X7_183 rfl dX7_tested_9 ?_
  obtain ⟨hb1, h⟩ := chk_some h
  refine Em_iast (by decide) rfl hb1 dX7_tested_12 ?_
  refine Ex_aload_n dX7_tested_13 rfl rfl ?_
  refine Ex_dup dX7_tested_14 rfl ?_
  refine Em_get FO_X7_226 rfl dX7_tested_15 ?_
  refine Ex_iconst (v := 1) dX7_tested_18 (by decide) ?_
  refine Ex_iadd dX7_tested_19 ?_
  refine Em_put FW_X7_226 rfl rfl rfl dX7_tested_20 ?_
  refine Ex_aload_n dX7_tested_23 rfl rfl ?_
  refine Ex_bipush (v := 12) dX7_tested_24 (by decide) ?_
  refine Ex_iconst (v := 0) dX7_tested_26 (by decide) ?_
  refine Ex_iconst (v := 0) dX7_tested_27 (by decide) ?_
  obtain ⟨r2, f3, a4, hc5, h⟩ := bnd_some h
  refine Em_callVv (C_m_emit hc5) CV_X7_232 (by decide) rfl rfl (Nat.le_of_ble_eq_true rfl) dX7_tested_28 ?_
  cases h
  exact Ex_return rfl dX7_tested_31
