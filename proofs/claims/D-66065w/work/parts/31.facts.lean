set_option maxRecDepth 100000
/-! facts of each kind of role -/
section HPF
variable {B : CS} {G : GA} {K : KS} {t k g i : Nat} {v : Int32}
theorem tg_0 (hS : St G B) : tg (hp G K B) (gad G 0 0 0) 1 = true := hp_tg hS (ok_1 (by decide)) rfl
theorem ty_0 (hS : St G B) : cty B (gad G 0 0 0) = 1 := (hS.1.1 _ _ _ (ok_1 (by decide))).2.2.1
theorem hi_0 (hS : St G B) : chi (hp G K B) g (gad G 0 0 0) = kkh K g 0 0 0 := hp_hi hS (ok_1 (by decide)) (by decide) rfl
theorem wI_0 (hS : St G B) : setI (hp G K B) g (gad G 0 0 0) v = hp G (ksI K g 0 0 0 v) B := hp_wI hS (ok_1 (by decide)) (by decide) rfl
theorem tg_1 (hS : St G B) : tg (hp G K B) (gad G 1 0 0) 2 = true := hp_tg hS (ok_1 (by decide)) rfl
theorem ty_1 (hS : St G B) : cty B (gad G 1 0 0) = 2 := (hS.1.1 _ _ _ (ok_1 (by decide))).2.2.1
theorem hi_1 (hS : St G B) : chi (hp G K B) g (gad G 1 0 0) = kkh K g 1 0 0 := hp_hi hS (ok_1 (by decide)) (by decide) rfl
theorem wI_1 (hS : St G B) : setI (hp G K B) g (gad G 1 0 0) v = hp G (ksI K g 1 0 0 v) B := hp_wI hS (ok_1 (by decide)) (by decide) rfl
theorem tg_2 (hS : St G B) : tg (hp G K B) (gad G 2 0 0) 5 = true := hp_tg hS (ok_1 (by decide)) rfl
theorem ty_2 (hS : St G B) : cty B (gad G 2 0 0) = 5 := (hS.1.1 _ _ _ (ok_1 (by decide))).2.2.1
theorem hi_2 (hS : St G B) : chi (hp G K B) g (gad G 2 0 0) = kkh K g 2 0 0 := hp_hi hS (ok_1 (by decide)) (by decide) rfl
theorem wI_2 (hS : St G B) : setI (hp G K B) g (gad G 2 0 0) v = hp G (ksI K g 2 0 0 v) B := hp_wI hS (ok_1 (by decide)) (by decide) rfl
theorem tg_3 (hS : St G B) : tg (hp G K B) (gad G 3 0 0) 7 = true := hp_tg hS (ok_1 (by decide)) rfl
theorem ty_3 (hS : St G B) : cty B (gad G 3 0 0) = 7 := (hS.1.1 _ _ _ (ok_1 (by decide))).2.2.1
theorem hi_3 (hS : St G B) : chi (hp G K B) g (gad G 3 0 0) = kkh K g 3 0 0 := hp_hi hS (ok_1 (by decide)) (by decide) rfl
theorem wI_3 (hS : St G B) : setI (hp G K B) g (gad G 3 0 0) v = hp G (ksI K g 3 0 0 v) B := hp_wI hS (ok_1 (by decide)) (by decide) rfl
theorem tg_10 (hS : St G B) : tg (hp G K B) (gad G 10 0 0) 51 = true := hp_tg hS (ok_1 (by decide)) rfl
theorem ty_10 (hS : St G B) : cty B (gad G 10 0 0) = 51 := (hS.1.1 _ _ _ (ok_1 (by decide))).2.2.1
theorem ln_10 (hS : St G B) : cln (hp G K B) (gad G 10 0 0) = 400 := hp_len (B := B) hS (ok_1 (by decide)) rfl (by decide)
theorem ai_10 (hS : St G B) (hi : i < 400) : cai (hp G K B) (gad G 10 0 0) i = kka K 10 0 0 i := hp_ai hS (ok_1 (by decide)) (by decide) hi
theorem wA_10 (hS : St G B) (hi : i < 400) : putI (hp G K B) (gad G 10 0 0) i v = hp G (ksA K 10 0 0 i v) B := hp_wA hS (ok_1 (by decide)) (by decide) hi
theorem tg_11 (hS : St G B) : tg (hp G K B) (gad G 11 0 0) 50 = true := hp_tg hS (ok_1 (by decide)) rfl
theorem ty_11 (hS : St G B) : cty B (gad G 11 0 0) = 50 := (hS.1.1 _ _ _ (ok_1 (by decide))).2.2.1
theorem ln_11 (hS : St G B) : cln (hp G K B) (gad G 11 0 0) = 32 := hp_len (B := B) hS (ok_1 (by decide)) rfl (by decide)
theorem ai_11 (hS : St G B) (hi : i < 32) : cai (hp G K B) (gad G 11 0 0) i = kka K 11 0 0 i := hp_ai hS (ok_1 (by decide)) (by decide) hi
theorem wA_11 (hS : St G B) (hi : i < 32) : putI (hp G K B) (gad G 11 0 0) i v = hp G (ksA K 11 0 0 i v) B := hp_wA hS (ok_1 (by decide)) (by decide) hi
theorem tg_12 (hS : St G B) : tg (hp G K B) (gad G 12 0 0) 50 = true := hp_tg hS (ok_1 (by decide)) rfl
theorem ty_12 (hS : St G B) : cty B (gad G 12 0 0) = 50 := (hS.1.1 _ _ _ (ok_1 (by decide))).2.2.1
theorem ln_12 (hS : St G B) : cln (hp G K B) (gad G 12 0 0) = 400 := hp_len (B := B) hS (ok_1 (by decide)) rfl (by decide)
theorem ai_12 (hS : St G B) (hi : i < 400) : cai (hp G K B) (gad G 12 0 0) i = kka K 12 0 0 i := hp_ai hS (ok_1 (by decide)) (by decide) hi
theorem wA_12 (hS : St G B) (hi : i < 400) : putI (hp G K B) (gad G 12 0 0) i v = hp G (ksA K 12 0 0 i v) B := hp_wA hS (ok_1 (by decide)) (by decide) hi
theorem tg_20 (hS : St G B) : tg (hp G K B) (gad G 20 0 0) 50 = true := hp_tg hS (ok_1 (by decide)) rfl
theorem ty_20 (hS : St G B) : cty B (gad G 20 0 0) = 50 := (hS.1.1 _ _ _ (ok_1 (by decide))).2.2.1
theorem ln_20 (hS : St G B) : cln (hp G K B) (gad G 20 0 0) = 32 := hp_len (B := B) hS (ok_1 (by decide)) rfl (by decide)
theorem ai_20 (hS : St G B) (hi : i < 32) : cai (hp G K B) (gad G 20 0 0) i = kka K 20 0 0 i := hp_ai hS (ok_1 (by decide)) (by decide) hi
theorem wA_20 (hS : St G B) (hi : i < 32) : putI (hp G K B) (gad G 20 0 0) i v = hp G (ksA K 20 0 0 i v) B := hp_wA hS (ok_1 (by decide)) (by decide) hi
theorem tg_21 (hS : St G B) : tg (hp G K B) (gad G 21 0 0) 50 = true := hp_tg hS (ok_1 (by decide)) rfl
theorem ty_21 (hS : St G B) : cty B (gad G 21 0 0) = 50 := (hS.1.1 _ _ _ (ok_1 (by decide))).2.2.1
theorem ln_21 (hS : St G B) : cln (hp G K B) (gad G 21 0 0) = 300 := hp_len (B := B) hS (ok_1 (by decide)) rfl (by decide)
theorem ai_21 (hS : St G B) (hi : i < 300) : cai (hp G K B) (gad G 21 0 0) i = kka K 21 0 0 i := hp_ai hS (ok_1 (by decide)) (by decide) hi
theorem wA_21 (hS : St G B) (hi : i < 300) : putI (hp G K B) (gad G 21 0 0) i v = hp G (ksA K 21 0 0 i v) B := hp_wA hS (ok_1 (by decide)) (by decide) hi
theorem tg_22 (hS : St G B) : tg (hp G K B) (gad G 22 0 0) 50 = true := hp_tg hS (ok_1 (by decide)) rfl
theorem ty_22 (hS : St G B) : cty B (gad G 22 0 0) = 50 := (hS.1.1 _ _ _ (ok_1 (by decide))).2.2.1
theorem ln_22 (hS : St G B) : cln (hp G K B) (gad G 22 0 0) = 1500 := hp_len (B := B) hS (ok_1 (by decide)) rfl (by decide)
theorem ai_22 (hS : St G B) (hi : i < 1500) : cai (hp G K B) (gad G 22 0 0) i = kka K 22 0 0 i := hp_ai hS (ok_1 (by decide)) (by decide) hi
theorem wA_22 (hS : St G B) (hi : i < 1500) : putI (hp G K B) (gad G 22 0 0) i v = hp G (ksA K 22 0 0 i v) B := hp_wA hS (ok_1 (by decide)) (by decide) hi
theorem tg_23 (hS : St G B) : tg (hp G K B) (gad G 23 0 0) 50 = true := hp_tg hS (ok_1 (by decide)) rfl
theorem ty_23 (hS : St G B) : cty B (gad G 23 0 0) = 50 := (hS.1.1 _ _ _ (ok_1 (by decide))).2.2.1
theorem ln_23 (hS : St G B) : cln (hp G K B) (gad G 23 0 0) = 1500 := hp_len (B := B) hS (ok_1 (by decide)) rfl (by decide)
theorem ai_23 (hS : St G B) (hi : i < 1500) : cai (hp G K B) (gad G 23 0 0) i = kka K 23 0 0 i := hp_ai hS (ok_1 (by decide)) (by decide) hi
theorem wA_23 (hS : St G B) (hi : i < 1500) : putI (hp G K B) (gad G 23 0 0) i v = hp G (ksA K 23 0 0 i v) B := hp_wA hS (ok_1 (by decide)) (by decide) hi
theorem tg_24 (hS : St G B) : tg (hp G K B) (gad G 24 0 0) 50 = true := hp_tg hS (ok_1 (by decide)) rfl
theorem ty_24 (hS : St G B) : cty B (gad G 24 0 0) = 50 := (hS.1.1 _ _ _ (ok_1 (by decide))).2.2.1
theorem ln_24 (hS : St G B) : cln (hp G K B) (gad G 24 0 0) = 1500 := hp_len (B := B) hS (ok_1 (by decide)) rfl (by decide)
theorem ai_24 (hS : St G B) (hi : i < 1500) : cai (hp G K B) (gad G 24 0 0) i = kka K 24 0 0 i := hp_ai hS (ok_1 (by decide)) (by decide) hi
theorem wA_24 (hS : St G B) (hi : i < 1500) : putI (hp G K B) (gad G 24 0 0) i v = hp G (ksA K 24 0 0 i v) B := hp_wA hS (ok_1 (by decide)) (by decide) hi
theorem tg_25 (hS : St G B) : tg (hp G K B) (gad G 25 0 0) 52 = true := hp_tg hS (ok_1 (by decide)) rfl
theorem ty_25 (hS : St G B) : cty B (gad G 25 0 0) = 52 := (hS.1.1 _ _ _ (ok_1 (by decide))).2.2.1
theorem ln_25 (hS : St G B) : cln (hp G K B) (gad G 25 0 0) = 1500 := hp_len (B := B) hS (ok_1 (by decide)) rfl (by decide)
theorem ai_25 (hS : St G B) (hi : i < 1500) : cai (hp G K B) (gad G 25 0 0) i = kka K 25 0 0 i := hp_ai hS (ok_1 (by decide)) (by decide) hi
theorem wA_25 (hS : St G B) (hi : i < 1500) : putI (hp G K B) (gad G 25 0 0) i v = hp G (ksA K 25 0 0 i v) B := hp_wA hS (ok_1 (by decide)) (by decide) hi
theorem tg_26 (hS : St G B) : tg (hp G K B) (gad G 26 0 0) 50 = true := hp_tg hS (ok_1 (by decide)) rfl
theorem ty_26 (hS : St G B) : cty B (gad G 26 0 0) = 50 := (hS.1.1 _ _ _ (ok_1 (by decide))).2.2.1
theorem ln_26 (hS : St G B) : cln (hp G K B) (gad G 26 0 0) = 32 := hp_len (B := B) hS (ok_1 (by decide)) rfl (by decide)
theorem ai_26 (hS : St G B) (hi : i < 32) : cai (hp G K B) (gad G 26 0 0) i = kka K 26 0 0 i := hp_ai hS (ok_1 (by decide)) (by decide) hi
theorem wA_26 (hS : St G B) (hi : i < 32) : putI (hp G K B) (gad G 26 0 0) i v = hp G (ksA K 26 0 0 i v) B := hp_wA hS (ok_1 (by decide)) (by decide) hi
theorem tg_27 (hS : St G B) : tg (hp G K B) (gad G 27 0 0) 50 = true := hp_tg hS (ok_1 (by decide)) rfl
theorem ty_27 (hS : St G B) : cty B (gad G 27 0 0) = 50 := (hS.1.1 _ _ _ (ok_1 (by decide))).2.2.1
theorem ln_27 (hS : St G B) : cln (hp G K B) (gad G 27 0 0) = 32 := hp_len (B := B) hS (ok_1 (by decide)) rfl (by decide)
theorem ai_27 (hS : St G B) (hi : i < 32) : cai (hp G K B) (gad G 27 0 0) i = kka K 27 0 0 i := hp_ai hS (ok_1 (by decide)) (by decide) hi
theorem wA_27 (hS : St G B) (hi : i < 32) : putI (hp G K B) (gad G 27 0 0) i v = hp G (ksA K 27 0 0 i v) B := hp_wA hS (ok_1 (by decide)) (by decide) hi
theorem tg_28 (hS : St G B) : tg (hp G K B) (gad G 28 0 0) 52 = true := hp_tg hS (ok_1 (by decide)) rfl
theorem ty_28 (hS : St G B) : cty B (gad G 28 0 0) = 52 := (hS.1.1 _ _ _ (ok_1 (by decide))).2.2.1
theorem ln_28 (hS : St G B) : cln (hp G K B) (gad G 28 0 0) = 32 := hp_len (B := B) hS (ok_1 (by decide)) rfl (by decide)
theorem ai_28 (hS : St G B) (hi : i < 32) : cai (hp G K B) (gad G 28 0 0) i = kka K 28 0 0 i := hp_ai hS (ok_1 (by decide)) (by decide) hi
theorem wA_28 (hS : St G B) (hi : i < 32) : putI (hp G K B) (gad G 28 0 0) i v = hp G (ksA K 28 0 0 i v) B := hp_wA hS (ok_1 (by decide)) (by decide) hi
theorem tg_30 (hS : St G B) : tg (hp G K B) (gad G 30 0 0) 50 = true := hp_tg hS (ok_1 (by decide)) rfl
theorem ty_30 (hS : St G B) : cty B (gad G 30 0 0) = 50 := (hS.1.1 _ _ _ (ok_1 (by decide))).2.2.1
theorem ln_30 (hS : St G B) : cln (hp G K B) (gad G 30 0 0) = 32 := hp_len (B := B) hS (ok_1 (by decide)) rfl (by decide)
theorem ai_30 (hS : St G B) (hi : i < 32) : cai (hp G K B) (gad G 30 0 0) i = kka K 30 0 0 i := hp_ai hS (ok_1 (by decide)) (by decide) hi
theorem wA_30 (hS : St G B) (hi : i < 32) : putI (hp G K B) (gad G 30 0 0) i v = hp G (ksA K 30 0 0 i v) B := hp_wA hS (ok_1 (by decide)) (by decide) hi
theorem tg_31 (hS : St G B) : tg (hp G K B) (gad G 31 0 0) 50 = true := hp_tg hS (ok_1 (by decide)) rfl
theorem ty_31 (hS : St G B) : cty B (gad G 31 0 0) = 50 := (hS.1.1 _ _ _ (ok_1 (by decide))).2.2.1
theorem ln_31 (hS : St G B) : cln (hp G K B) (gad G 31 0 0) = 201 := hp_len (B := B) hS (ok_1 (by decide)) rfl (by decide)
theorem ai_31 (hS : St G B) (hi : i < 201) : cai (hp G K B) (gad G 31 0 0) i = kka K 31 0 0 i := hp_ai hS (ok_1 (by decide)) (by decide) hi
theorem wA_31 (hS : St G B) (hi : i < 201) : putI (hp G K B) (gad G 31 0 0) i v = hp G (ksA K 31 0 0 i v) B := hp_wA hS (ok_1 (by decide)) (by decide) hi
theorem tg_32 (hS : St G B) : tg (hp G K B) (gad G 32 0 0) 50 = true := hp_tg hS (ok_1 (by decide)) rfl
theorem ty_32 (hS : St G B) : cty B (gad G 32 0 0) = 50 := (hS.1.1 _ _ _ (ok_1 (by decide))).2.2.1
theorem ln_32 (hS : St G B) : cln (hp G K B) (gad G 32 0 0) = 201 := hp_len (B := B) hS (ok_1 (by decide)) rfl (by decide)
theorem ai_32 (hS : St G B) (hi : i < 201) : cai (hp G K B) (gad G 32 0 0) i = kka K 32 0 0 i := hp_ai hS (ok_1 (by decide)) (by decide) hi
theorem wA_32 (hS : St G B) (hi : i < 201) : putI (hp G K B) (gad G 32 0 0) i v = hp G (ksA K 32 0 0 i v) B := hp_wA hS (ok_1 (by decide)) (by decide) hi
theorem tg_33 (hS : St G B) : tg (hp G K B) (gad G 33 0 0) 50 = true := hp_tg hS (ok_1 (by decide)) rfl
theorem ty_33 (hS : St G B) : cty B (gad G 33 0 0) = 50 := (hS.1.1 _ _ _ (ok_1 (by decide))).2.2.1
theorem ln_33 (hS : St G B) : cln (hp G K B) (gad G 33 0 0) = 201 := hp_len (B := B) hS (ok_1 (by decide)) rfl (by decide)
theorem ai_33 (hS : St G B) (hi : i < 201) : cai (hp G K B) (gad G 33 0 0) i = kka K 33 0 0 i := hp_ai hS (ok_1 (by decide)) (by decide) hi
theorem wA_33 (hS : St G B) (hi : i < 201) : putI (hp G K B) (gad G 33 0 0) i v = hp G (ksA K 33 0 0 i v) B := hp_wA hS (ok_1 (by decide)) (by decide) hi
theorem tg_34 (hS : St G B) : tg (hp G K B) (gad G 34 0 0) 50 = true := hp_tg hS (ok_1 (by decide)) rfl
theorem ty_34 (hS : St G B) : cty B (gad G 34 0 0) = 50 := (hS.1.1 _ _ _ (ok_1 (by decide))).2.2.1
theorem ln_34 (hS : St G B) : cln (hp G K B) (gad G 34 0 0) = 300 := hp_len (B := B) hS (ok_1 (by decide)) rfl (by decide)
theorem ai_34 (hS : St G B) (hi : i < 300) : cai (hp G K B) (gad G 34 0 0) i = kka K 34 0 0 i := hp_ai hS (ok_1 (by decide)) (by decide) hi
theorem wA_34 (hS : St G B) (hi : i < 300) : putI (hp G K B) (gad G 34 0 0) i v = hp G (ksA K 34 0 0 i v) B := hp_wA hS (ok_1 (by decide)) (by decide) hi
theorem tg_35 (hS : St G B) : tg (hp G K B) (gad G 35 0 0) 50 = true := hp_tg hS (ok_1 (by decide)) rfl
theorem ty_35 (hS : St G B) : cty B (gad G 35 0 0) = 50 := (hS.1.1 _ _ _ (ok_1 (by decide))).2.2.1
theorem ln_35 (hS : St G B) : cln (hp G K B) (gad G 35 0 0) = 300 := hp_len (B := B) hS (ok_1 (by decide)) rfl (by decide)
theorem ai_35 (hS : St G B) (hi : i < 300) : cai (hp G K B) (gad G 35 0 0) i = kka K 35 0 0 i := hp_ai hS (ok_1 (by decide)) (by decide) hi
theorem wA_35 (hS : St G B) (hi : i < 300) : putI (hp G K B) (gad G 35 0 0) i v = hp G (ksA K 35 0 0 i v) B := hp_wA hS (ok_1 (by decide)) (by decide) hi
theorem tg_51 (hS : St G B) : tg (hp G K B) (gad G 51 0 0) 10 = true := hp_tg hS (ok_1 (by decide)) rfl
theorem ty_51 (hS : St G B) : cty B (gad G 51 0 0) = 10 := (hS.1.1 _ _ _ (ok_1 (by decide))).2.2.1
theorem tg_52 (hS : St G B) : tg (hp G K B) (gad G 52 0 0) 10 = true := hp_tg hS (ok_1 (by decide)) rfl
theorem ty_52 (hS : St G B) : cty B (gad G 52 0 0) = 10 := (hS.1.1 _ _ _ (ok_1 (by decide))).2.2.1
theorem tg_53 (hS : St G B) : tg (hp G K B) (gad G 53 0 0) 10 = true := hp_tg hS (ok_1 (by decide)) rfl
theorem ty_53 (hS : St G B) : cty B (gad G 53 0 0) = 10 := (hS.1.1 _ _ _ (ok_1 (by decide))).2.2.1
theorem tg_61 (hS : St G B) : tg (hp G K B) (gad G 61 0 0) 53 = true := hp_tg hS (ok_1 (by decide)) rfl
theorem ty_61 (hS : St G B) : cty B (gad G 61 0 0) = 53 := (hS.1.1 _ _ _ (ok_1 (by decide))).2.2.1
theorem tg_62 (hS : St G B) : tg (hp G K B) (gad G 62 0 0) 53 = true := hp_tg hS (ok_1 (by decide)) rfl
theorem ty_62 (hS : St G B) : cty B (gad G 62 0 0) = 53 := (hS.1.1 _ _ _ (ok_1 (by decide))).2.2.1
theorem tg_63 (hS : St G B) : tg (hp G K B) (gad G 63 0 0) 53 = true := hp_tg hS (ok_1 (by decide)) rfl
theorem ty_63 (hS : St G B) : cty B (gad G 63 0 0) = 53 := (hS.1.1 _ _ _ (ok_1 (by decide))).2.2.1
theorem tg_4 (hS : St G B) (ht : t = 100 ∨ t < gnt G) : tg (hp G K B) (gad G 4 t 0) 6 = true := hp_tg hS (ok_4 ht) rfl
theorem ty_4 (hS : St G B) (ht : t = 100 ∨ t < gnt G) : cty B (gad G 4 t 0) = 6 := (hS.1.1 _ _ _ (ok_4 ht)).2.2.1
theorem hi_502 (hS : St G B) (ht : t = 100 ∨ t < gnt G) : chi (hp G K B) 502 (gad G 4 t 0) = kkh K 502 4 t 0 := hp_hi hS (ok_4 ht) (by decide) rfl
theorem wI_502 (hS : St G B) (ht : t = 100 ∨ t < gnt G) : setI (hp G K B) 502 (gad G 4 t 0) v = hp G (ksI K 502 4 t 0 v) B := hp_wI hS (ok_4 ht) (by decide) rfl
theorem hi_503 (hS : St G B) (ht : t = 100 ∨ t < gnt G) : chi (hp G K B) 503 (gad G 4 t 0) = kkh K 503 4 t 0 := hp_hi hS (ok_4 ht) (by decide) rfl
theorem wI_503 (hS : St G B) (ht : t = 100 ∨ t < gnt G) : setI (hp G K B) 503 (gad G 4 t 0) v = hp G (ksI K 503 4 t 0 v) B := hp_wI hS (ok_4 ht) (by decide) rfl
theorem hi_504 (hS : St G B) (ht : t = 100 ∨ t < gnt G) : chi (hp G K B) 504 (gad G 4 t 0) = kkh K 504 4 t 0 := hp_hi hS (ok_4 ht) (by decide) rfl
theorem wI_504 (hS : St G B) (ht : t = 100 ∨ t < gnt G) : setI (hp G K B) 504 (gad G 4 t 0) v = hp G (ksI K 504 4 t 0 v) B := hp_wI hS (ok_4 ht) (by decide) rfl
theorem tg_40 (hS : St G B) (ht : t = 100 ∨ t < gnt G) : tg (hp G K B) (gad G 40 t 0) 50 = true := hp_tg hS (ok_40 ht) rfl
theorem ty_40 (hS : St G B) (ht : t = 100 ∨ t < gnt G) : cty B (gad G 40 t 0) = 50 := (hS.1.1 _ _ _ (ok_40 ht)).2.2.1
theorem ln_40 (hS : St G B) (ht : t = 100 ∨ t < gnt G) : cln (hp G K B) (gad G 40 t 0) = 64 := hp_len (B := B) hS (ok_40 ht) rfl (by decide)
theorem ai_40 (hS : St G B) (ht : t = 100 ∨ t < gnt G) (hi : i < 64) : cai (hp G K B) (gad G 40 t 0) i = kka K 40 t 0 i := hp_ai hS (ok_40 ht) (by decide) hi
theorem wA_40 (hS : St G B) (ht : t = 100 ∨ t < gnt G) (hi : i < 64) : putI (hp G K B) (gad G 40 t 0) i v = hp G (ksA K 40 t 0 i v) B := hp_wA hS (ok_40 ht) (by decide) hi
theorem tg_50 (hS : St G B) (ht : t = 100 ∨ t < gnt G) : tg (hp G K B) (gad G 50 t 0) 10 = true := hp_tg hS (ok_50 ht) rfl
theorem ty_50 (hS : St G B) (ht : t = 100 ∨ t < gnt G) : cty B (gad G 50 t 0) = 10 := (hS.1.1 _ _ _ (ok_50 ht)).2.2.1
theorem tg_60 (hS : St G B) (ht : t = 100 ∨ t < gnt G) : tg (hp G K B) (gad G 60 t 0) 53 = true := hp_tg hS (ok_60 ht) rfl
theorem ty_60 (hS : St G B) (ht : t = 100 ∨ t < gnt G) : cty B (gad G 60 t 0) = 53 := (hS.1.1 _ _ _ (ok_60 ht)).2.2.1
theorem tg_5 (hS : St G B) (ht : t = 100 ∨ t < gnt G) (hk : k < gnf G t) : tg (hp G K B) (gad G 5 t k) 8 = true := hp_tg hS (ok_5 ht hk) rfl
theorem ty_5 (hS : St G B) (ht : t = 100 ∨ t < gnt G) (hk : k < gnf G t) : cty B (gad G 5 t k) = 8 := (hS.1.1 _ _ _ (ok_5 ht hk)).2.2.1
theorem hi_701 (hS : St G B) (ht : t = 100 ∨ t < gnt G) (hk : k < gnf G t) : chi (hp G K B) 701 (gad G 5 t k) = kkh K 701 5 t k := hp_hi hS (ok_5 ht hk) (by decide) rfl
theorem wI_701 (hS : St G B) (ht : t = 100 ∨ t < gnt G) (hk : k < gnf G t) : setI (hp G K B) 701 (gad G 5 t k) v = hp G (ksI K 701 5 t k v) B := hp_wI hS (ok_5 ht hk) (by decide) rfl
theorem hi_702 (hS : St G B) (ht : t = 100 ∨ t < gnt G) (hk : k < gnf G t) : chi (hp G K B) 702 (gad G 5 t k) = kkh K 702 5 t k := hp_hi hS (ok_5 ht hk) (by decide) rfl
theorem wI_702 (hS : St G B) (ht : t = 100 ∨ t < gnt G) (hk : k < gnf G t) : setI (hp G K B) 702 (gad G 5 t k) v = hp G (ksI K 702 5 t k v) B := hp_wI hS (ok_5 ht hk) (by decide) rfl
theorem hi_703 (hS : St G B) (ht : t = 100 ∨ t < gnt G) (hk : k < gnf G t) : chi (hp G K B) 703 (gad G 5 t k) = kkh K 703 5 t k := hp_hi hS (ok_5 ht hk) (by decide) rfl
theorem wI_703 (hS : St G B) (ht : t = 100 ∨ t < gnt G) (hk : k < gnf G t) : setI (hp G K B) 703 (gad G 5 t k) v = hp G (ksI K 703 5 t k v) B := hp_wI hS (ok_5 ht hk) (by decide) rfl
theorem hi_704 (hS : St G B) (ht : t = 100 ∨ t < gnt G) (hk : k < gnf G t) : chi (hp G K B) 704 (gad G 5 t k) = kkh K 704 5 t k := hp_hi hS (ok_5 ht hk) (by decide) rfl
theorem wI_704 (hS : St G B) (ht : t = 100 ∨ t < gnt G) (hk : k < gnf G t) : setI (hp G K B) 704 (gad G 5 t k) v = hp G (ksI K 704 5 t k v) B := hp_wI hS (ok_5 ht hk) (by decide) rfl
theorem hi_705 (hS : St G B) (ht : t = 100 ∨ t < gnt G) (hk : k < gnf G t) : chi (hp G K B) 705 (gad G 5 t k) = kkh K 705 5 t k := hp_hi hS (ok_5 ht hk) (by decide) rfl
theorem wI_705 (hS : St G B) (ht : t = 100 ∨ t < gnt G) (hk : k < gnf G t) : setI (hp G K B) 705 (gad G 5 t k) v = hp G (ksI K 705 5 t k v) B := hp_wI hS (ok_5 ht hk) (by decide) rfl
theorem hi_706 (hS : St G B) (ht : t = 100 ∨ t < gnt G) (hk : k < gnf G t) : chi (hp G K B) 706 (gad G 5 t k) = kkh K 706 5 t k := hp_hi hS (ok_5 ht hk) (by decide) rfl
theorem wI_706 (hS : St G B) (ht : t = 100 ∨ t < gnt G) (hk : k < gnf G t) : setI (hp G K B) 706 (gad G 5 t k) v = hp G (ksI K 706 5 t k v) B := hp_wI hS (ok_5 ht hk) (by decide) rfl
theorem hi_707 (hS : St G B) (ht : t = 100 ∨ t < gnt G) (hk : k < gnf G t) : chi (hp G K B) 707 (gad G 5 t k) = kkh K 707 5 t k := hp_hi hS (ok_5 ht hk) (by decide) rfl
theorem wI_707 (hS : St G B) (ht : t = 100 ∨ t < gnt G) (hk : k < gnf G t) : setI (hp G K B) 707 (gad G 5 t k) v = hp G (ksI K 707 5 t k v) B := hp_wI hS (ok_5 ht hk) (by decide) rfl
theorem hi_708 (hS : St G B) (ht : t = 100 ∨ t < gnt G) (hk : k < gnf G t) : chi (hp G K B) 708 (gad G 5 t k) = kkh K 708 5 t k := hp_hi hS (ok_5 ht hk) (by decide) rfl
theorem wI_708 (hS : St G B) (ht : t = 100 ∨ t < gnt G) (hk : k < gnf G t) : setI (hp G K B) 708 (gad G 5 t k) v = hp G (ksI K 708 5 t k v) B := hp_wI hS (ok_5 ht hk) (by decide) rfl
theorem hi_709 (hS : St G B) (ht : t = 100 ∨ t < gnt G) (hk : k < gnf G t) : chi (hp G K B) 709 (gad G 5 t k) = kkh K 709 5 t k := hp_hi hS (ok_5 ht hk) (by decide) rfl
theorem wI_709 (hS : St G B) (ht : t = 100 ∨ t < gnt G) (hk : k < gnf G t) : setI (hp G K B) 709 (gad G 5 t k) v = hp G (ksI K 709 5 t k v) B := hp_wI hS (ok_5 ht hk) (by decide) rfl
theorem tg_41 (hS : St G B) (ht : t = 100 ∨ t < gnt G) (hk : k < gnf G t) : tg (hp G K B) (gad G 41 t k) 50 = true := hp_tg hS (ok_41 ht hk) rfl
theorem ty_41 (hS : St G B) (ht : t = 100 ∨ t < gnt G) (hk : k < gnf G t) : cty B (gad G 41 t k) = 50 := (hS.1.1 _ _ _ (ok_41 ht hk)).2.2.1
theorem ln_41 (hS : St G B) (ht : t = 100 ∨ t < gnt G) (hk : k < gnf G t) : cln (hp G K B) (gad G 41 t k) = 26 := hp_len (B := B) hS (ok_41 ht hk) rfl (by decide)
theorem ai_41 (hS : St G B) (ht : t = 100 ∨ t < gnt G) (hk : k < gnf G t) (hi : i < 26) : cai (hp G K B) (gad G 41 t k) i = kka K 41 t k i := hp_ai hS (ok_41 ht hk) (by decide) hi
theorem wA_41 (hS : St G B) (ht : t = 100 ∨ t < gnt G) (hk : k < gnf G t) (hi : i < 26) : putI (hp G K B) (gad G 41 t k) i v = hp G (ksA K 41 t k i v) B := hp_wA hS (ok_41 ht hk) (by decide) hi
theorem tg_6 (hS : St G B) (hk : k < gnr G) : tg (hp G K B) (gad G 6 0 k) 9 = true := hp_tg hS (ok_6 hk) rfl
theorem ty_6 (hS : St G B) (hk : k < gnr G) : cty B (gad G 6 0 k) = 9 := (hS.1.1 _ _ _ (ok_6 hk)).2.2.1
theorem hi_800 (hS : St G B) (hk : k < gnr G) : chi (hp G K B) 800 (gad G 6 0 k) = kkh K 800 6 0 k := hp_hi hS (ok_6 hk) (by decide) rfl
theorem wI_800 (hS : St G B) (hk : k < gnr G) : setI (hp G K B) 800 (gad G 6 0 k) v = hp G (ksI K 800 6 0 k v) B := hp_wI hS (ok_6 hk) (by decide) rfl
theorem hi_801 (hS : St G B) (hk : k < gnr G) : chi (hp G K B) 801 (gad G 6 0 k) = kkh K 801 6 0 k := hp_hi hS (ok_6 hk) (by decide) rfl
theorem wI_801 (hS : St G B) (hk : k < gnr G) : setI (hp G K B) 801 (gad G 6 0 k) v = hp G (ksI K 801 6 0 k v) B := hp_wI hS (ok_6 hk) (by decide) rfl
theorem hi_802 (hS : St G B) (hk : k < gnr G) : chi (hp G K B) 802 (gad G 6 0 k) = kkh K 802 6 0 k := hp_hi hS (ok_6 hk) (by decide) rfl
theorem wI_802 (hS : St G B) (hk : k < gnr G) : setI (hp G K B) 802 (gad G 6 0 k) v = hp G (ksI K 802 6 0 k v) B := hp_wI hS (ok_6 hk) (by decide) rfl
theorem hi_803 (hS : St G B) (hk : k < gnr G) : chi (hp G K B) 803 (gad G 6 0 k) = kkh K 803 6 0 k := hp_hi hS (ok_6 hk) (by decide) rfl
theorem wI_803 (hS : St G B) (hk : k < gnr G) : setI (hp G K B) 803 (gad G 6 0 k) v = hp G (ksI K 803 6 0 k v) B := hp_wI hS (ok_6 hk) (by decide) rfl
theorem rf_0_0 (hS : St G B) : chr (hp G K B) 0 (gad G 0 0 0) = some (gad G 10 0 0) := hp_rf hS (by decide) (ok_1 (by decide))
theorem rf_2_0 (hS : St G B) : chr (hp G K B) 2 (gad G 0 0 0) = some (gad G 1 0 0) := hp_rf hS (by decide) (ok_1 (by decide))
theorem rf_3_0 (hS : St G B) : chr (hp G K B) 3 (gad G 0 0 0) = some (gad G 11 0 0) := hp_rf hS (by decide) (ok_1 (by decide))
theorem rf_5_0 (hS : St G B) : chr (hp G K B) 5 (gad G 0 0 0) = some (gad G 2 0 0) := hp_rf hS (by decide) (ok_1 (by decide))
theorem rf_6_0 (hS : St G B) : chr (hp G K B) 6 (gad G 0 0 0) = some (gad G 3 0 0) := hp_rf hS (by decide) (ok_1 (by decide))
theorem rf_105_1 (hS : St G B) : chr (hp G K B) 105 (gad G 1 0 0) = some (gad G 53 0 0) := hp_rf hS (by decide) (ok_1 (by decide))
theorem rf_106_1 (hS : St G B) : chr (hp G K B) 106 (gad G 1 0 0) = some (gad G 12 0 0) := hp_rf hS (by decide) (ok_1 (by decide))
theorem rf_1001_2 (hS : St G B) : chr (hp G K B) 1001 (gad G 2 0 0) = some (gad G 20 0 0) := hp_rf hS (by decide) (ok_1 (by decide))
theorem rf_407_2 (hS : St G B) : chr (hp G K B) 407 (gad G 2 0 0) = some (gad G 21 0 0) := hp_rf hS (by decide) (ok_1 (by decide))
theorem rf_411_2 (hS : St G B) : chr (hp G K B) 411 (gad G 2 0 0) = some (gad G 22 0 0) := hp_rf hS (by decide) (ok_1 (by decide))
theorem rf_412_2 (hS : St G B) : chr (hp G K B) 412 (gad G 2 0 0) = some (gad G 23 0 0) := hp_rf hS (by decide) (ok_1 (by decide))
theorem rf_416_2 (hS : St G B) : chr (hp G K B) 416 (gad G 2 0 0) = some (gad G 24 0 0) := hp_rf hS (by decide) (ok_1 (by decide))
theorem rf_417_2 (hS : St G B) : chr (hp G K B) 417 (gad G 2 0 0) = some (gad G 25 0 0) := hp_rf hS (by decide) (ok_1 (by decide))
theorem rf_419_2 (hS : St G B) : chr (hp G K B) 419 (gad G 2 0 0) = some (gad G 26 0 0) := hp_rf hS (by decide) (ok_1 (by decide))
theorem rf_420_2 (hS : St G B) : chr (hp G K B) 420 (gad G 2 0 0) = some (gad G 27 0 0) := hp_rf hS (by decide) (ok_1 (by decide))
theorem rf_421_2 (hS : St G B) : chr (hp G K B) 421 (gad G 2 0 0) = some (gad G 28 0 0) := hp_rf hS (by decide) (ok_1 (by decide))
theorem rf_422_2 (hS : St G B) : chr (hp G K B) 422 (gad G 2 0 0) = some (gad G 52 0 0) := hp_rf hS (by decide) (ok_1 (by decide))
theorem rf_1001_3 (hS : St G B) : chr (hp G K B) 1001 (gad G 3 0 0) = some (gad G 30 0 0) := hp_rf hS (by decide) (ok_1 (by decide))
theorem rf_606_3 (hS : St G B) : chr (hp G K B) 606 (gad G 3 0 0) = some (gad G 51 0 0) := hp_rf hS (by decide) (ok_1 (by decide))
theorem rf_607_3 (hS : St G B) : chr (hp G K B) 607 (gad G 3 0 0) = some (gad G 31 0 0) := hp_rf hS (by decide) (ok_1 (by decide))
theorem rf_608_3 (hS : St G B) : chr (hp G K B) 608 (gad G 3 0 0) = some (gad G 32 0 0) := hp_rf hS (by decide) (ok_1 (by decide))
theorem rf_609_3 (hS : St G B) : chr (hp G K B) 609 (gad G 3 0 0) = some (gad G 33 0 0) := hp_rf hS (by decide) (ok_1 (by decide))
theorem rf_610_3 (hS : St G B) : chr (hp G K B) 610 (gad G 3 0 0) = some (gad G 34 0 0) := hp_rf hS (by decide) (ok_1 (by decide))
theorem rf_611_3 (hS : St G B) : chr (hp G K B) 611 (gad G 3 0 0) = some (gad G 35 0 0) := hp_rf hS (by decide) (ok_1 (by decide))
theorem rf_500_4 (hS : St G B) (ht : t = 100 ∨ t < gnt G) : chr (hp G K B) 500 (gad G 4 t 0) = some (gad G 50 t 0) := hp_rf hS (by decide) (ok_4 ht)
theorem rf_501_4 (hS : St G B) (ht : t = 100 ∨ t < gnt G) : chr (hp G K B) 501 (gad G 4 t 0) = some (gad G 40 t 0) := hp_rf hS (by decide) (ok_4 ht)
theorem rf_700_5 (hS : St G B) (ht : t = 100 ∨ t < gnt G) (hk : k < gnf G t) : chr (hp G K B) 700 (gad G 5 t k) = some (gad G 41 t k) := hp_rf hS (by decide) (ok_5 ht hk)
theorem rf_901_50 (hS : St G B) (ht : t = 100 ∨ t < gnt G) : chr (hp G K B) 901 (gad G 50 t 0) = some (gad G 60 t 0) := hp_rf hS (by decide) (ok_50 ht)
theorem rf_901_51 (hS : St G B) : chr (hp G K B) 901 (gad G 51 0 0) = some (gad G 61 0 0) := hp_rf hS (by decide) (ok_1 (by decide))
theorem rf_901_52 (hS : St G B) : chr (hp G K B) 901 (gad G 52 0 0) = some (gad G 62 0 0) := hp_rf hS (by decide) (ok_1 (by decide))
theorem rf_901_53 (hS : St G B) : chr (hp G K B) 901 (gad G 53 0 0) = some (gad G 63 0 0) := hp_rf hS (by decide) (ok_1 (by decide))
theorem dy_4_0 (hS : St G B) : chr (hp G K B) 4 (gad G 0 0 0) = kkp K 1 := hp_dyn hS (ok_1 (by decide)) rfl (by decide) (by decide)
theorem wP_4_0 (hS : St G B) {p : Option Nat} : setR (hp G K B) 4 (gad G 0 0 0) p = hp G (ksP K 1 p) B := hp_wP hS (ok_1 (by decide)) (by decide) rfl (by decide) (by decide)
theorem dy_104_1 (hS : St G B) : chr (hp G K B) 104 (gad G 1 0 0) = kkp K 2 := hp_dyn hS (ok_1 (by decide)) rfl (by decide) (by decide)
theorem wP_104_1 (hS : St G B) {p : Option Nat} : setR (hp G K B) 104 (gad G 1 0 0) p = hp G (ksP K 2 p) B := hp_wP hS (ok_1 (by decide)) (by decide) rfl (by decide) (by decide)
theorem dy_1000_2 (hS : St G B) : chr (hp G K B) 1000 (gad G 2 0 0) = kkp K 3 := hp_dyn hS (ok_1 (by decide)) rfl (by decide) (by decide)
theorem wP_1000_2 (hS : St G B) {p : Option Nat} : setR (hp G K B) 1000 (gad G 2 0 0) p = hp G (ksP K 3 p) B := hp_wP hS (ok_1 (by decide)) (by decide) rfl (by decide) (by decide)
theorem dy_1000_3 (hS : St G B) : chr (hp G K B) 1000 (gad G 3 0 0) = kkp K 4 := hp_dyn hS (ok_1 (by decide)) rfl (by decide) (by decide)
theorem wP_1000_3 (hS : St G B) {p : Option Nat} : setR (hp G K B) 1000 (gad G 3 0 0) p = hp G (ksP K 4 p) B := hp_wP hS (ok_1 (by decide)) (by decide) rfl (by decide) (by decide)
theorem dy_100_1 (hS : St G B) : chr (hp G K B) 100 (gad G 1 0 0) = kkp K 5 := hp_dyn hS (ok_1 (by decide)) rfl (by decide) (by decide)
theorem wP_100_1 (hS : St G B) {p : Option Nat} : setR (hp G K B) 100 (gad G 1 0 0) p = hp G (ksP K 5 p) B := hp_wP hS (ok_1 (by decide)) (by decide) rfl (by decide) (by decide)
theorem tM_2 (hS : St G B) : tg2 (hp G K B) (gad G 2 0 0) = true := decide_eq_true (Or.inl (ty_2 (B := B) hS))
theorem tM_3 (hS : St G B) : tg2 (hp G K B) (gad G 3 0 0) = true := decide_eq_true (Or.inr (ty_3 (B := B) hS))
/-! reading what was written -/
theorem kh_I (g kd t k : Nat) (v : Int32) (g' kd' t' k' : Nat) : kkh (ksI K g kd t k v) g' kd' t' k' = if g' = g ∧ kd' = kd ∧ t' = t ∧ k' = k then v else kkh K g' kd' t' k' := rfl
theorem kh_A (kd t k i : Nat) (v : Int32) : kkh (ksA K kd t k i v) = kkh K := rfl
theorem kh_F (t k : Nat) (v : Option (Nat × Nat)) : kkh (ksF K t k v) = kkh K := rfl
theorem kh_P (m : Nat) (v : Option Nat) : kkh (ksP K m v) = kkh K := rfl
theorem ka_A (kd t k i : Nat) (v : Int32) (kd' t' k' i' : Nat) : kka (ksA K kd t k i v) kd' t' k' i' = if kd' = kd ∧ t' = t ∧ k' = k ∧ i' = i then v else kka K kd' t' k' i' := rfl
theorem ka_I (g kd t k : Nat) (v : Int32) : kka (ksI K g kd t k v) = kka K := rfl
theorem ka_F (t k : Nat) (v : Option (Nat × Nat)) : kka (ksF K t k v) = kka K := rfl
theorem ka_P (m : Nat) (v : Option Nat) : kka (ksP K m v) = kka K := rfl
theorem kf_I (g kd t k : Nat) (v : Int32) : kkf (ksI K g kd t k v) = kkf K := rfl
theorem kf_A (kd t k i : Nat) (v : Int32) : kkf (ksA K kd t k i v) = kkf K := rfl
theorem kf_F (t k : Nat) (v : Option (Nat × Nat)) (t' k' : Nat) : kkf (ksF K t k v) t' k' = if t' = t ∧ k' = k then v else kkf K t' k' := rfl
theorem kf_P (m : Nat) (v : Option Nat) : kkf (ksP K m v) = kkf K := rfl
theorem kp_I (g kd t k : Nat) (v : Int32) : kkp (ksI K g kd t k v) = kkp K := rfl
theorem kp_A (kd t k i : Nat) (v : Int32) : kkp (ksA K kd t k i v) = kkp K := rfl
theorem kp_F (t k : Nat) (v : Option (Nat × Nat)) : kkp (ksF K t k v) = kkp K := rfl
theorem kp_P (m : Nat) (v : Option Nat) (m' : Nat) : kkp (ksP K m v) m' = if m' = m then v else kkp K m' := rfl
theorem chk_t {α : Type} (q : Option α) : chk true q = q := if_pos rfl
theorem drf_s {β : Type} (a : Nat) (q : Nat → Option β) : drf (some a) q = q a := rfl
theorem opq_so {β : Type} (a : Nat) (A : Option β) (q : Nat → Option β) : opq (some a) A q = q a := rfl
theorem opq_no {β : Type} (A : Option β) (q : Nat → Option β) : opq none A q = A := rfl
theorem cbn_0 {α β : Type} (x : α) (σ : CS) (q : α → CS → CR β) : cbn (some (x, σ, 0, 0)) q = q x σ := by
  show (match q x σ with | none => none | some (y, σ', c', n') => some (y, σ', 0 + c', 0 + n')) = q x σ
  rcases q x σ with _ | ⟨y, σ', c, n⟩
  · rfl
  · simp
theorem cbn_c {α β : Type} (x : α) (σ : CS) (c n : Nat) (q : α → CS → CR β) : cbn (some (x, σ, c, n)) q = (q x σ).map fun z => (z.1, z.2.1, c + z.2.2.1, n + z.2.2.2) := by
  show (match q x σ with | none => none | some (y, σ', c', n') => some (y, σ', c + c', n + n')) = _
  rcases q x σ with _ | ⟨y, σ', c', n'⟩
  · rfl
  · rfl
theorem cal_s {β : Type} (c n : Nat) (y : β) (σ : CS) (c' n' : Nat) : cal c n (some (y, σ, c', n')) = some (y, σ, c' + c, n' + n) := rfl
theorem ibn {h N : Nat} (h1 : h < N) (h2 : N < 2 ^ 31) : ib (nI h) N = true := decide_eq_true (nI_in h1 h2)
theorem cln_ {h : Nat} (h1 : h < 2 ^ 31) : (nI h).toNatClampNeg = h := nI_clamp h1
end HPF
