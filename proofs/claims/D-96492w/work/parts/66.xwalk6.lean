set_option maxRecDepth 100000
def x_X0_mayAsk (a0 : Int32) (a1 : Int32) (C : XH) (K : Int32 → XH → Prop) : Prop := (if a0 = 0 then x_X0_in ((a1 : Int32).toInt64) 1 200 C (fun r3 C2 => K r3 C2) else if a0 = 1 then x_X0_in ((a1 : Int32).toInt64) 1 20 C (fun r5 C4 => K r5 C4) else if a0 = 2 then x_X0_in ((a1 : Int32).toInt64) 0 9 C (fun r7 C6 => K r7 C6) else (if a0 = 3 then x_X0_in ((a1 : Int32).toInt64) 0 60 C (fun r9 C8 => (if r9 = 0 then K 0 C8 else K 1 C8)) else K 0 C))
theorem iX0_mayAsk : xInf yX0_mayAsk cX0_mayAsk 2 (some .boolean) 2 := ⟨q936, by decide +kernel⟩
set_option maxHeartbeats 4000000 in
theorem xet_X0_mayAsk (l : Launch) (a0 : Int32) (a1 : Int32) (C : XH) (K : Int32 → XH → Prop) (hs : x_X0_mayAsk a0 a1 C K) : xMetz l yX0_mayAsk (ws_ yX0_mayAsk cX0_mayAsk 2 (some .boolean)) 1 25 0 0 C [.int a0, .int a1] K := by
  intro D dT adK adV sz
  refine xEnter (own := RX0) (Qc := xQz D dT K) (by decide) rfl (by rfl) ?_
  intro p e s m args below meth c A ls X hnm hK hA hG hI hl
  have hx := X.1
  have hb := X.2.1
  have hts := X.2.2.2.2.1
  have hown := X.2.2.2.2.2.1
  have hl : lv_has ls 2 [(0, .int a0), (1, .int a1)] := hl
  unfold x_X0_mayAsk at hs
  refine lv_iload_n hx hb dX0_mayAsk_0 rfl (lv_at hl 0 rfl) ?_
  by_cases c0_0 : a0 = 0
  · replace hs := ifp c0_0 hs
    refine lv_tableIn (tgt := 28) hx hb dX0_mayAsk_1 (by rw [c0_0]; decide) (by rw [c0_0]; decide) (by rw [c0_0]; rfl) (by decide) ?_
    refine lv_iload_n hx hb dX0_mayAsk_28 rfl (lv_at hl 1 rfl) ?_
    refine lv_i2l (v := ((a1 : Int32).toInt64)) hx hb dX0_mayAsk_29 rfl ?_
    refine lv_lconst (v := 1) hx hb dX0_mayAsk_30 (by decide) ?_
    refine lv_ldc2 hx hb hown (hts _ q937) dX0_mayAsk_31 ?_
    refine x_goz hA hI (x_runS (As := [.long ((a1 : Int32).toInt64), .long 1, .long 200]) (rest := []) X hK hA hG hI (xet_X0_in l ((a1 : Int32).toInt64) 1 200 _ _ hs) iX0_in q473 q474 q94 ⟨(Nat.le_of_ble_eq_true rfl), (Nat.le_of_ble_eq_true rfl)⟩ rfl hl.1 rfl (Nat.le_of_ble_eq_true rfl) dX0_mayAsk_34 ⟨(Nat.le_of_ble_eq_true rfl), (Nat.le_of_ble_eq_true rfl)⟩) (fun r3 C2 H locs br3 hs9 hI => ?_)
    replace hs := hs9
    exact x_retz X hK hI br3 hs (Nat.le_of_ble_eq_true rfl) (Nat.le_of_ble_eq_true rfl) dX0_mayAsk_37
  · replace hs := ifn c0_0 hs
    by_cases c0_1 : a0 = 1
    · replace hs := ifp c0_1 hs
      refine lv_tableIn (tgt := 38) hx hb dX0_mayAsk_1 (by rw [c0_1]; decide) (by rw [c0_1]; decide) (by rw [c0_1]; rfl) (by decide) ?_
      refine lv_iload_n hx hb dX0_mayAsk_38 rfl (lv_at hl 1 rfl) ?_
      refine lv_i2l (v := ((a1 : Int32).toInt64)) hx hb dX0_mayAsk_39 rfl ?_
      refine lv_lconst (v := 1) hx hb dX0_mayAsk_40 (by decide) ?_
      refine lv_ldc2 hx hb hown (hts _ q938) dX0_mayAsk_41 ?_
      refine x_goz hA hI (x_runS (As := [.long ((a1 : Int32).toInt64), .long 1, .long 20]) (rest := []) X hK hA hG hI (xet_X0_in l ((a1 : Int32).toInt64) 1 20 _ _ hs) iX0_in q473 q474 q94 ⟨(Nat.le_of_ble_eq_true rfl), (Nat.le_of_ble_eq_true rfl)⟩ rfl hl.1 rfl (Nat.le_of_ble_eq_true rfl) dX0_mayAsk_44 ⟨(Nat.le_of_ble_eq_true rfl), (Nat.le_of_ble_eq_true rfl)⟩) (fun r5 C4 H locs br5 hs9 hI => ?_)
      replace hs := hs9
      exact x_retz X hK hI br5 hs (Nat.le_of_ble_eq_true rfl) (Nat.le_of_ble_eq_true rfl) dX0_mayAsk_47
    · replace hs := ifn c0_1 hs
      by_cases c0_2 : a0 = 2
      · replace hs := ifp c0_2 hs
        refine lv_tableIn (tgt := 48) hx hb dX0_mayAsk_1 (by rw [c0_2]; decide) (by rw [c0_2]; decide) (by rw [c0_2]; rfl) (by decide) ?_
        refine lv_iload_n hx hb dX0_mayAsk_48 rfl (lv_at hl 1 rfl) ?_
        refine lv_i2l (v := ((a1 : Int32).toInt64)) hx hb dX0_mayAsk_49 rfl ?_
        refine lv_lconst (v := 0) hx hb dX0_mayAsk_50 (by decide) ?_
        refine lv_ldc2 hx hb hown (hts _ q775) dX0_mayAsk_51 ?_
        refine x_goz hA hI (x_runS (As := [.long ((a1 : Int32).toInt64), .long 0, .long 9]) (rest := []) X hK hA hG hI (xet_X0_in l ((a1 : Int32).toInt64) 0 9 _ _ hs) iX0_in q473 q474 q94 ⟨(Nat.le_of_ble_eq_true rfl), (Nat.le_of_ble_eq_true rfl)⟩ rfl hl.1 rfl (Nat.le_of_ble_eq_true rfl) dX0_mayAsk_54 ⟨(Nat.le_of_ble_eq_true rfl), (Nat.le_of_ble_eq_true rfl)⟩) (fun r7 C6 H locs br7 hs9 hI => ?_)
        replace hs := hs9
        exact x_retz X hK hI br7 hs (Nat.le_of_ble_eq_true rfl) (Nat.le_of_ble_eq_true rfl) dX0_mayAsk_57
      · replace hs := ifn c0_2 hs
        refine lv_tableOut (tgt := 58) hx hb dX0_mayAsk_1 (sw_out (fun k h1 h2 => by
          have h3 : k = 0 ∨ k = 1 ∨ k = 2 := by omega
          rcases h3 with rfl | rfl | rfl
          · exact lv_neT c0_0 rfl
          · exact lv_neT c0_1 rfl
          · exact lv_neT c0_2 rfl
          )) (by decide) ?_
        refine lv_iload_n hx hb dX0_mayAsk_58 rfl (lv_at hl 0 rfl) ?_
        refine lv_iconst (v := 3) hx hb dX0_mayAsk_59 (by decide) ?_
        refine lv_icmp_ne (tgt := 79) hx hb dX0_mayAsk_60 (by decide) (fun c10 => ?_) (fun c10 => ?_)
        · replace hs := ifn c10 hs
          refine lv_iconst (v := 0) hx hb dX0_mayAsk_79 (by decide) ?_
          exact x_retz X hK hI isB0 hs (Nat.le_of_ble_eq_true rfl) (Nat.le_of_ble_eq_true rfl) dX0_mayAsk_80
        · replace hs := ifp c10 hs
          refine lv_iload_n hx hb dX0_mayAsk_63 rfl (lv_at hl 1 rfl) ?_
          refine lv_i2l (v := ((a1 : Int32).toInt64)) hx hb dX0_mayAsk_64 rfl ?_
          refine lv_lconst (v := 0) hx hb dX0_mayAsk_65 (by decide) ?_
          refine lv_ldc2 hx hb hown (hts _ q939) dX0_mayAsk_66 ?_
          refine x_goz hA hI (x_runS (As := [.long ((a1 : Int32).toInt64), .long 0, .long 60]) (rest := []) X hK hA hG hI (xet_X0_in l ((a1 : Int32).toInt64) 0 60 _ _ hs) iX0_in q473 q474 q94 ⟨(Nat.le_of_ble_eq_true rfl), (Nat.le_of_ble_eq_true rfl)⟩ rfl hl.1 rfl (Nat.le_of_ble_eq_true rfl) dX0_mayAsk_69 ⟨(Nat.le_of_ble_eq_true rfl), (Nat.le_of_ble_eq_true rfl)⟩) (fun r9 C8 H locs br9 hs9 hI => ?_)
          replace hs := hs9
          refine lv_if_eq (tgt := 79) hx hb dX0_mayAsk_72 (by decide) (fun c9 => ?_) (fun c9 => ?_)
          · replace hs := ifp c9 hs
            refine lv_iconst (v := 0) hx hb dX0_mayAsk_79 (by decide) ?_
            exact x_retz X hK hI isB0 hs (Nat.le_of_ble_eq_true rfl) (Nat.le_of_ble_eq_true rfl) dX0_mayAsk_80
          · replace hs := ifn c9 hs
            refine lv_iconst (v := 1) hx hb dX0_mayAsk_75 (by decide) ?_
            refine lv_goto (tgt := 80) hx hb dX0_mayAsk_76 (by decide) ?_
            exact x_retz X hK hI isB1 hs (Nat.le_of_ble_eq_true rfl) (Nat.le_of_ble_eq_true rfl) dX0_mayAsk_80
def x_X0_ask (a0 : Nat) (a1 : Int32) (a2 : Int32) (C : XH) (K : Int32 → XH → Prop) : Prop := x_X0_mayAsk a1 a2 C (fun r2 C1 => x_X0_need r2 (-6) C1 (fun C3 => obd (xgr C3 (xis 0) a0 7) (fun ad4 => obd (xgr C3 (xis 4) ad4 5) (fun ad5 => obd (xai C3 0 ad5 a1) (fun v6 => obd (xgr C3 (xis 0) a0 7) (fun ad7 => obd (xgr C3 (xis 4) ad7 5) (fun ad8 => obd (xsi C3 ad8 a1 a2) (fun C9 => K v6 C9))))))) (fun ad10 C11 => (xcl C11 a0 = some 0 ∧ x_X0_refused a0 ad10 C11 (fun r13 C12 => K r13 C12))))
theorem iX0_ask : xInfW yX0_ask cX0_ask 4 (some .int) [(0, 31, 32, 21)] 2 := ⟨q933, by decide +kernel⟩
set_option maxHeartbeats 4000000 in
theorem xet_X0_ask (l : Launch) (hl0 : l.stackTraces = false) (a0 : Nat) (a1 : Int32) (a2 : Int32) (C : XH) (K : Int32 → XH → Prop) (hs : x_X0_ask a0 a1 a2 C K) : xMetX l yX0_ask (wsW_ yX0_ask cX0_ask 4 (some .int) [(0, 31, 32, 21)]) 5 114 1 7 C [.ref a0, .int a1, .int a2] (fun D dT A => xQi D dT K A) xE0 := by
  intro D dT adK adV sz
  refine xEnterW (own := RX0) (Qc := xQi D dT K) (XC := xXC D dT xE0) (by decide) rfl (by rfl) ?_
  intro p e s m args below meth c A ls X hnm hK hA hG hT hI hl
  have hx := X.1
  have hb := X.2.1
  have hts := X.2.2.2.2.1
  have hown := X.2.2.2.2.2.1
  have hl : lv_has ls 4 [(0, .ref a0), (1, .int a1), (2, .int a2)] := hl
  unfold x_X0_ask at hs
  refine lv_iload_n hx hb dX0_ask_0 rfl (lv_at hl 1 rfl) ?_
  refine lv_iload_n hx hb dX0_ask_1 rfl (lv_at hl 2 rfl) ?_
  refine x_goz hA hI (x_runS (As := [.int a1, .int a2]) (rest := []) X hK hA hG hI (xet_X0_mayAsk l a1 a2 _ _ hs) iX0_mayAsk q934 q935 q94 ⟨(Nat.le_of_ble_eq_true rfl), (Nat.le_of_ble_eq_true rfl)⟩ rfl hl.1 rfl (Nat.le_of_ble_eq_true rfl) dX0_ask_2 ⟨(Nat.le_of_ble_eq_true rfl), (Nat.le_of_ble_eq_true rfl)⟩) (fun r2 C1 H locs br2 hs9 hI => ?_)
  replace hs := hs9
  refine lv_bipush (v := (-6)) hx hb dX0_ask_5 (by decide) ?_
  refine xT_gov hA hI (x_runST (As := [.int r2, .int (-6)]) (rest := []) X hK hA hG hI (xet_X0_need l hl0 r2 (-6) _ _ _ hs) iX0_need q469 q470 q94 ⟨(Nat.le_of_ble_eq_true rfl), (Nat.le_of_ble_eq_true rfl)⟩ rfl hl.1 rfl (Nat.le_of_ble_eq_true rfl) dX0_ask_7 ⟨(Nat.le_of_ble_eq_true rfl), (Nat.le_of_ble_eq_true rfl)⟩) (fun En ce ad10 C11 H locs hs9 hI hce hvm hcl => ?_) (fun C3 H locs hs9 hI => ?_)
  · obtain ⟨rfl, hs0⟩ := hs9
    replace hs := hs0
    refine x_catch (k := 0) (a1 := 0) (a2 := 31) (a3 := 32) (a4 := 21) X hG hT rfl (x_cov rfl) rfl (by decide) q363 (by decide) hce hvm hcl ?_
    refine lv_astore_n (lv' := [(3, .ref ad10), (0, .ref a0), (1, .int a1), (2, .int a2)]) hx hb dX0_ask_32 rfl hl (by decide) rfl (fun ls hl => ?_)
    refine lv_aload_n hx hb dX0_ask_33 rfl (lv_at hl 1 rfl) ?_
    refine lv_aload_n hx hb dX0_ask_34 rfl (lv_at hl 0 rfl) ?_
    obtain ⟨h13, hs⟩ := hs
    obtain ⟨fh13, h13⟩ := xcl_spec h13
    refine x_goi hA hI (x_runV (As := [.ref ad10]) (rest := []) X hK hA hG hI h13 (q := (RX0, TX0, 10)) rfl rfl (xet_X0_refused l a0 ad10 _ _ hs) iX0_refused q538 q540 qs2 q94 ⟨(Nat.le_of_ble_eq_true rfl), (Nat.le_of_ble_eq_true rfl)⟩ rfl hl.1 rfl (Nat.le_of_ble_eq_true rfl) dX0_ask_35 ⟨(Nat.le_of_ble_eq_true rfl), (Nat.le_of_ble_eq_true rfl)⟩) (fun r13 C12 H locs hs9 hI => ?_)
    replace hs := hs9
    exact vx_ret (x_reti X hK hI hs (Nat.le_of_ble_eq_true rfl) (Nat.le_of_ble_eq_true rfl) dX0_ask_38)
  · replace hs := hs9
    refine lv_aload_n hx hb dX0_ask_10 rfl (lv_at hl 0 rfl) ?_
    obtain ⟨ad4, ead4, hs⟩ := hs
    refine x_get (v := .ref ad4) X hK hI 0 7 rfl in_X0 rfl q335 rfl (xgr_spec ead4) dX0_ask_11 ?_
    obtain ⟨ad5, ead5, hs⟩ := hs
    refine x_get (v := .ref ad5) X hK hI 4 5 rfl in_X4 rfl q268 rfl (xgr_spec ead5) dX0_ask_14 ?_
    refine lv_iload_n hx hb dX0_ask_17 rfl (lv_at hl 1 rfl) ?_
    obtain ⟨v6, ev6, hs⟩ := hs
    refine x_iald X hK hI ev6 dX0_ask_18 ?_
    refine lv_istore_n (lv' := [(3, .int v6), (0, .ref a0), (1, .int a1), (2, .int a2)]) hx hb dX0_ask_19 rfl hl (by decide) rfl (fun ls hl => ?_)
    refine lv_aload_n hx hb dX0_ask_20 rfl (lv_at hl 1 rfl) ?_
    obtain ⟨ad7, ead7, hs⟩ := hs
    refine x_get (v := .ref ad7) X hK hI 0 7 rfl in_X0 rfl q335 rfl (xgr_spec ead7) dX0_ask_21 ?_
    obtain ⟨ad8, ead8, hs⟩ := hs
    refine x_get (v := .ref ad8) X hK hI 4 5 rfl in_X4 rfl q268 rfl (xgr_spec ead8) dX0_ask_24 ?_
    refine lv_iload_n hx hb dX0_ask_27 rfl (lv_at hl 2 rfl) ?_
    refine lv_iload_n hx hb dX0_ask_28 rfl (lv_at hl 3 rfl) ?_
    obtain ⟨C9, eC9, hs⟩ := hs
    refine x_iast X hK hI eC9 dX0_ask_29 (fun H locs hI => ?_)
    refine lv_iload_n hx hb dX0_ask_30 rfl (lv_at hl 0 rfl) ?_
    exact vx_ret (x_reti X hK hI hs (Nat.le_of_ble_eq_true rfl) (Nat.le_of_ble_eq_true rfl) dX0_ask_31)
def x_X0_roll (a0 : Nat) (a1 : Int32) (C : XH) (K : Int32 → XH → Prop) : Prop := obd (xgr C (xis 0) a0 7) (fun ad1 => obd (xgi C (xis 4) ad1 3) (fun v2 => jn (fun (v3 : Int32) => obd (xgr C (xis 0) a0 7) (fun ad4 => ((a1 = 0 ∨ a1 = 1) ∧ obd (xpv C (xis 4) ad4 3 (.int a1)) (fun C5 => K v3 C5)))) (fun k15_3 => (if v2 = 0 then k15_3 0 else k15_3 1))))
theorem iX0_roll : xInf yX0_roll cX0_roll 3 (some .int) 1 := ⟨q943, by decide +kernel⟩
set_option maxHeartbeats 4000000 in
theorem xet_X0_roll (l : Launch) (a0 : Nat) (a1 : Int32) (C : XH) (K : Int32 → XH → Prop) (hs : x_X0_roll a0 a1 C K) : xMeti l yX0_roll (ws_ yX0_roll cX0_roll 3 (some .int)) 0 0 0 0 C [.ref a0, .int a1] K := by
  intro D dT adK adV sz
  refine xEnter (own := RX0) (Qc := xQi D dT K) (by decide) rfl (by rfl) ?_
  intro p e s m args below meth c A ls X hnm hK hA hG hI hl
  have hx := X.1
  have hb := X.2.1
  have hts := X.2.2.2.2.1
  have hown := X.2.2.2.2.2.1
  have hl : lv_has ls 3 [(0, .ref a0), (1, .int a1)] := hl
  unfold x_X0_roll at hs
  refine lv_aload_n hx hb dX0_roll_0 rfl (lv_at hl 0 rfl) ?_
  obtain ⟨ad1, ead1, hs⟩ := hs
  refine x_get (v := .ref ad1) X hK hI 0 7 rfl in_X0 rfl q335 rfl (xgr_spec ead1) dX0_roll_1 ?_
  obtain ⟨v2, ev2, hs⟩ := hs
  refine x_get (v := .int v2) X hK hI 4 3 rfl in_X4 rfl q262 rfl (xgi_spec ev2) dX0_roll_4 ?_
  obtain ⟨k15_3, hk15_3, hs⟩ := jn_ex hs
  have Ek15_3 : ∀ (v3 : Int32) (H : Heap) (locs : List Loc) (ls : Array Slot), k15_3 v3 → xI D dT A s.heap C H locs → lv_has ls 3 [(0, .ref a0), (1, .int a1)] → W p l e (xRm 0 0 0 0) s m args below meth c H locs 0 0 (MQ below (xQi D dT K A) args s 0 0 A) (F0 m 15 ls [.int v3]) := by
    intro v3 H locs ls hs hI hl
    rw [hk15_3] at hs
    refine lv_istore_n (lv' := [(2, .int v3), (0, .ref a0), (1, .int a1)]) hx hb dX0_roll_15 rfl hl (by decide) rfl (fun ls hl => ?_)
    refine lv_aload_n hx hb dX0_roll_16 rfl (lv_at hl 1 rfl) ?_
    obtain ⟨ad4, ead4, hs⟩ := hs
    refine x_get (v := .ref ad4) X hK hI 0 7 rfl in_X0 rfl q335 rfl (xgr_spec ead4) dX0_roll_17 ?_
    refine lv_iload_n hx hb dX0_roll_20 rfl (lv_at hl 2 rfl) ?_
    obtain ⟨z5, hs⟩ := hs
    obtain ⟨C5, eC5, hs⟩ := hs
    refine x_putB X hK hI 4 3 rfl in_X4 tyX4 tyX4_ok nmX4 rfl q262 rfl rfl rfl z5 eC5 dX0_roll_21 (fun H locs hI => ?_)
    refine lv_iload_n hx hb dX0_roll_24 rfl (lv_at hl 0 rfl) ?_
    exact x_reti X hK hI hs (Nat.le_of_ble_eq_true rfl) (Nat.le_of_ble_eq_true rfl) dX0_roll_25
  refine lv_if_eq (tgt := 14) hx hb dX0_roll_7 (by decide) (fun c6 => ?_) (fun c6 => ?_)
  · replace hs := ifp c6 hs
    refine lv_iconst (v := 0) hx hb dX0_roll_14 (by decide) ?_
    exact Ek15_3 _ _ _ _ hs hI hl
  · replace hs := ifn c6 hs
    refine lv_iconst (v := 1) hx hb dX0_roll_10 (by decide) ?_
    refine lv_goto (tgt := 15) hx hb dX0_roll_11 (by decide) ?_
    exact Ek15_3 _ _ _ _ hs hI hl
def x_X4_take (a0 : Nat) (a1 : Nat) (C : XH) (K : Nat → XH → Prop) : Prop := obd (xgi C (xis 4) a1 0) (fun v1 => obd (xpv C (xis 4) a0 0 (.int v1)) (fun C2 => obd (xgi C2 (xis 4) a1 1) (fun v3 => obd (xpv C2 (xis 4) a0 1 (.int v3)) (fun C4 => obd (xgi C4 (xis 4) a1 2) (fun v5 => obd (xpv C4 (xis 4) a0 2 (.int v5)) (fun C6 => obd (xgi C6 (xis 4) a1 3) (fun v7 => ((v7 = 0 ∨ v7 = 1) ∧ obd (xpv C6 (xis 4) a0 3 (.int v7)) (fun C8 => obd (xgi C8 (xis 4) a1 4) (fun v10 => obd (xpv C8 (xis 4) a0 4 (.int v10)) (fun C11 => obd (xgr C11 (xis 4) a1 5) (fun ad12 => obd (xgr C11 (xis 4) a0 5) (fun ad13 => xcpi 0 C11 ad12 0 ad13 0 4 (fun C14 => obd (xgr C14 (xis 4) a1 6) (fun ad15 => obd (xgr C14 (xis 4) a0 6) (fun ad16 => obd (xgi C14 (xis 4) a0 0) (fun v17 => xcpq C14 ad15 0 ad16 0 v17 (fun C18 => obd (xgr C18 (xis 4) a1 7) (fun ad19 => obd (xgr C18 (xis 4) a0 7) (fun ad20 => obd (xgi C18 (xis 4) a0 0) (fun v21 => xcpi 0 C18 ad19 0 ad20 0 v21 (fun C22 => obd (xgr C22 (xis 4) a1 8) (fun ad23 => obd (xgr C22 (xis 4) a0 8) (fun ad24 => obd (xgi C22 (xis 4) a0 0) (fun v25 => xcpi 0 C22 ad23 0 ad24 0 v25 (fun C26 => obd (xgr C26 (xis 4) a1 9) (fun ad27 => obd (xgr C26 (xis 4) a0 9) (fun ad28 => obd (xgi C26 (xis 4) a0 0) (fun v29 => xcpi 0 C26 ad27 0 ad28 0 v29 (fun C30 => obd (xgr C30 (xis 4) a1 10) (fun ad31 => obd (xgr C30 (xis 4) a0 10) (fun ad32 => obd (xgi C30 (xis 4) a0 0) (fun v33 => xcpi 0 C30 ad31 0 ad32 0 v33 (fun C34 => obd (xgr C34 (xis 4) a1 11) (fun ad35 => obd (xgr C34 (xis 4) a0 11) (fun ad36 => obd (xgi C34 (xis 4) a0 1) (fun v37 => xcpi 0 C34 ad35 0 ad36 0 v37 (fun C38 => obd (xgr C38 (xis 4) a1 12) (fun ad39 => obd (xgr C38 (xis 4) a0 12) (fun ad40 => obd (xgi C38 (xis 4) a0 1) (fun v41 => xcpi 0 C38 ad39 0 ad40 0 v41 (fun C42 => K a0 C42))))))))))))))))))))))))))))))))))))))))))
theorem iX4_take : xInf yX4_take cX4_take 2 (some (.object RX4)) 1 := ⟨q952, by decide +kernel⟩
set_option maxHeartbeats 4000000 in
theorem xet_X4_take (l : Launch) (a0 : Nat) (a1 : Nat) (C : XH) (K : Nat → XH → Prop) (hs : x_X4_take a0 a1 C K) : xMetr l yX4_take (ws_ yX4_take cX4_take 2 (some (.object RX4))) 1 200 0 0 C [.ref a0, .ref a1] K := by
  intro D dT adK adV sz
  refine xEnter (own := RX4) (Qc := xQr D dT K) (by decide) rfl (by rfl) ?_
  intro p e s m args below meth c A ls X hnm hK hA hG hI hl
  have hx := X.1
  have hb := X.2.1
  have hts := X.2.2.2.2.1
  have hown := X.2.2.2.2.2.1
  have hl : lv_has ls 2 [(0, .ref a0), (1, .ref a1)] := hl
  unfold x_X4_take at hs
  refine lv_aload_n hx hb dX4_take_0 rfl (lv_at hl 0 rfl) ?_
  refine lv_aload_n hx hb dX4_take_1 rfl (lv_at hl 1 rfl) ?_
  obtain ⟨v1, ev1, hs⟩ := hs
  refine x_get (v := .int v1) X hK hI 4 0 rfl in_X4 rfl q251 rfl (xgi_spec ev1) dX4_take_2 ?_
  obtain ⟨C2, eC2, hs⟩ := hs
  refine x_put X hK hI 4 0 rfl in_X4 tyX4 tyX4_ok nmX4 rfl q251 rfl rfl rfl rfl eC2 dX4_take_5 (fun H locs hI => ?_)
  refine lv_aload_n hx hb dX4_take_8 rfl (lv_at hl 0 rfl) ?_
  refine lv_aload_n hx hb dX4_take_9 rfl (lv_at hl 1 rfl) ?_
  obtain ⟨v3, ev3, hs⟩ := hs
  refine x_get (v := .int v3) X hK hI 4 1 rfl in_X4 rfl q254 rfl (xgi_spec ev3) dX4_take_10 ?_
  obtain ⟨C4, eC4, hs⟩ := hs
  refine x_put X hK hI 4 1 rfl in_X4 tyX4 tyX4_ok nmX4 rfl q254 rfl rfl rfl rfl eC4 dX4_take_13 (fun H locs hI => ?_)
  refine lv_aload_n hx hb dX4_take_16 rfl (lv_at hl 0 rfl) ?_
  refine lv_aload_n hx hb dX4_take_17 rfl (lv_at hl 1 rfl) ?_
  obtain ⟨v5, ev5, hs⟩ := hs
  refine x_get (v := .int v5) X hK hI 4 2 rfl in_X4 rfl q258 rfl (xgi_spec ev5) dX4_take_18 ?_
  obtain ⟨C6, eC6, hs⟩ := hs
  refine x_put X hK hI 4 2 rfl in_X4 tyX4 tyX4_ok nmX4 rfl q258 rfl rfl rfl rfl eC6 dX4_take_21 (fun H locs hI => ?_)
  refine lv_aload_n hx hb dX4_take_24 rfl (lv_at hl 0 rfl) ?_
  refine lv_aload_n hx hb dX4_take_25 rfl (lv_at hl 1 rfl) ?_
  obtain ⟨v7, ev7, hs⟩ := hs
  refine x_get (v := .int v7) X hK hI 4 3 rfl in_X4 rfl q260 rfl (xgi_spec ev7) dX4_take_26 ?_
  obtain ⟨z8, hs⟩ := hs
  obtain ⟨C8, eC8, hs⟩ := hs
  refine x_putB X hK hI 4 3 rfl in_X4 tyX4 tyX4_ok nmX4 rfl q260 rfl rfl rfl z8 eC8 dX4_take_29 (fun H locs hI => ?_)
  refine lv_aload_n hx hb dX4_take_32 rfl (lv_at hl 0 rfl) ?_
  refine lv_aload_n hx hb dX4_take_33 rfl (lv_at hl 1 rfl) ?_
  obtain ⟨v10, ev10, hs⟩ := hs
  refine x_get (v := .int v10) X hK hI 4 4 rfl in_X4 rfl q263 rfl (xgi_spec ev10) dX4_take_34 ?_
  obtain ⟨C11, eC11, hs⟩ := hs
  refine x_put X hK hI 4 4 rfl in_X4 tyX4 tyX4_ok nmX4 rfl q263 rfl rfl rfl rfl eC11 dX4_take_37 (fun H locs hI => ?_)
  refine lv_aload_n hx hb dX4_take_40 rfl (lv_at hl 1 rfl) ?_
  obtain ⟨ad12, ead12, hs⟩ := hs
  refine x_get (v := .ref ad12) X hK hI 4 5 rfl in_X4 rfl q265 rfl (xgr_spec ead12) dX4_take_41 ?_
  refine lv_iconst (v := 0) hx hb dX4_take_44 (by decide) ?_
  refine lv_aload_n hx hb dX4_take_45 rfl (lv_at hl 0 rfl) ?_
  obtain ⟨ad13, ead13, hs⟩ := hs
  refine x_get (v := .ref ad13) X hK hI 4 5 rfl in_X4 rfl q265 rfl (xgr_spec ead13) dX4_take_46 ?_
  refine lv_iconst (v := 0) hx hb dX4_take_49 (by decide) ?_
  refine lv_iconst (v := 4) hx hb dX4_take_50 (by decide) ?_
  refine x_cpi 0 (Or.inl rfl) (rest := []) X hK hI q953 hs hl.1 (Nat.le_of_ble_eq_true rfl) (Nat.le_of_ble_eq_true rfl) dX4_take_51 (fun C14 H locs hs9 hI => ?_)
  replace hs := hs9
  refine lv_aload_n hx hb dX4_take_54 rfl (lv_at hl 1 rfl) ?_
  obtain ⟨ad15, ead15, hs⟩ := hs
  refine x_get (v := .ref ad15) X hK hI 4 6 rfl in_X4 rfl q269 rfl (xgr_spec ead15) dX4_take_55 ?_
  refine lv_iconst (v := 0) hx hb dX4_take_58 (by decide) ?_
  refine lv_aload_n hx hb dX4_take_59 rfl (lv_at hl 0 rfl) ?_
  obtain ⟨ad16, ead16, hs⟩ := hs
  refine x_get (v := .ref ad16) X hK hI 4 6 rfl in_X4 rfl q269 rfl (xgr_spec ead16) dX4_take_60 ?_
  refine lv_iconst (v := 0) hx hb dX4_take_63 (by decide) ?_
  refine lv_aload_n hx hb dX4_take_64 rfl (lv_at hl 0 rfl) ?_
  obtain ⟨v17, ev17, hs⟩ := hs
  refine x_get (v := .int v17) X hK hI 4 0 rfl in_X4 rfl q251 rfl (xgi_spec ev17) dX4_take_65 ?_
  refine x_cpq (rest := []) X hK hG hI q953 hs hl.1 (Nat.le_of_ble_eq_true rfl) (Nat.le_of_ble_eq_true rfl) dX4_take_68 (fun C18 H locs hs9 hI => ?_)
  replace hs := hs9
  refine lv_aload_n hx hb dX4_take_71 rfl (lv_at hl 1 rfl) ?_
  obtain ⟨ad19, ead19, hs⟩ := hs
  refine x_get (v := .ref ad19) X hK hI 4 7 rfl in_X4 rfl q273 rfl (xgr_spec ead19) dX4_take_72 ?_
  refine lv_iconst (v := 0) hx hb dX4_take_75 (by decide) ?_
  refine lv_aload_n hx hb dX4_take_76 rfl (lv_at hl 0 rfl) ?_
  obtain ⟨ad20, ead20, hs⟩ := hs
  refine x_get (v := .ref ad20) X hK hI 4 7 rfl in_X4 rfl q273 rfl (xgr_spec ead20) dX4_take_77 ?_
  refine lv_iconst (v := 0) hx hb dX4_take_80 (by decide) ?_
  refine lv_aload_n hx hb dX4_take_81 rfl (lv_at hl 0 rfl) ?_
  obtain ⟨v21, ev21, hs⟩ := hs
  refine x_get (v := .int v21) X hK hI 4 0 rfl in_X4 rfl q251 rfl (xgi_spec ev21) dX4_take_82 ?_
  refine x_cpi 0 (Or.inl rfl) (rest := []) X hK hI q953 hs hl.1 (Nat.le_of_ble_eq_true rfl) (Nat.le_of_ble_eq_true rfl) dX4_take_85 (fun C22 H locs hs9 hI => ?_)
  replace hs := hs9
  refine lv_aload_n hx hb dX4_take_88 rfl (lv_at hl 1 rfl) ?_
  obtain ⟨ad23, ead23, hs⟩ := hs
  refine x_get (v := .ref ad23) X hK hI 4 8 rfl in_X4 rfl q277 rfl (xgr_spec ead23) dX4_take_89 ?_
  refine lv_iconst (v := 0) hx hb dX4_take_92 (by decide) ?_
  refine lv_aload_n hx hb dX4_take_93 rfl (lv_at hl 0 rfl) ?_
  obtain ⟨ad24, ead24, hs⟩ := hs
  refine x_get (v := .ref ad24) X hK hI 4 8 rfl in_X4 rfl q277 rfl (xgr_spec ead24) dX4_take_94 ?_
  refine lv_iconst (v := 0) hx hb dX4_take_97 (by decide) ?_
  refine lv_aload_n hx hb dX4_take_98 rfl (lv_at hl 0 rfl) ?_
  obtain ⟨v25, ev25, hs⟩ := hs
  refine x_get (v := .int v25) X hK hI 4 0 rfl in_X4 rfl q251 rfl (xgi_spec ev25) dX4_take_99 ?_
  refine x_cpi 0 (Or.inl rfl) (rest := []) X hK hI q953 hs hl.1 (Nat.le_of_ble_eq_true rfl) (Nat.le_of_ble_eq_true rfl) dX4_take_102 (fun C26 H locs hs9 hI => ?_)
  replace hs := hs9
  refine lv_aload_n hx hb dX4_take_105 rfl (lv_at hl 1 rfl) ?_
  obtain ⟨ad27, ead27, hs⟩ := hs
  refine x_get (v := .ref ad27) X hK hI 4 9 rfl in_X4 rfl q281 rfl (xgr_spec ead27) dX4_take_106 ?_
  refine lv_iconst (v := 0) hx hb dX4_take_109 (by decide) ?_
  refine lv_aload_n hx hb dX4_take_110 rfl (lv_at hl 0 rfl) ?_
  obtain ⟨ad28, ead28, hs⟩ := hs
  refine x_get (v := .ref ad28) X hK hI 4 9 rfl in_X4 rfl q281 rfl (xgr_spec ead28) dX4_take_111 ?_
  refine lv_iconst (v := 0) hx hb dX4_take_114 (by decide) ?_
  refine lv_aload_n hx hb dX4_take_115 rfl (lv_at hl 0 rfl) ?_
  obtain ⟨v29, ev29, hs⟩ := hs
  refine x_get (v := .int v29) X hK hI 4 0 rfl in_X4 rfl q251 rfl (xgi_spec ev29) dX4_take_116 ?_
  refine x_cpi 0 (Or.inl rfl) (rest := []) X hK hI q953 hs hl.1 (Nat.le_of_ble_eq_true rfl) (Nat.le_of_ble_eq_true rfl) dX4_take_119 (fun C30 H locs hs9 hI => ?_)
  replace hs := hs9
  refine lv_aload_n hx hb dX4_take_122 rfl (lv_at hl 1 rfl) ?_
  obtain ⟨ad31, ead31, hs⟩ := hs
  refine x_get (v := .ref ad31) X hK hI 4 10 rfl in_X4 rfl q285 rfl (xgr_spec ead31) dX4_take_123 ?_
  refine lv_iconst (v := 0) hx hb dX4_take_126 (by decide) ?_
  refine lv_aload_n hx hb dX4_take_127 rfl (lv_at hl 0 rfl) ?_
  obtain ⟨ad32, ead32, hs⟩ := hs
  refine x_get (v := .ref ad32) X hK hI 4 10 rfl in_X4 rfl q285 rfl (xgr_spec ead32) dX4_take_128 ?_
  refine lv_iconst (v := 0) hx hb dX4_take_131 (by decide) ?_
  refine lv_aload_n hx hb dX4_take_132 rfl (lv_at hl 0 rfl) ?_
  obtain ⟨v33, ev33, hs⟩ := hs
  refine x_get (v := .int v33) X hK hI 4 0 rfl in_X4 rfl q251 rfl (xgi_spec ev33) dX4_take_133 ?_
  refine x_cpi 0 (Or.inl rfl) (rest := []) X hK hI q953 hs hl.1 (Nat.le_of_ble_eq_true rfl) (Nat.le_of_ble_eq_true rfl) dX4_take_136 (fun C34 H locs hs9 hI => ?_)
  replace hs := hs9
  refine lv_aload_n hx hb dX4_take_139 rfl (lv_at hl 1 rfl) ?_
  obtain ⟨ad35, ead35, hs⟩ := hs
  refine x_get (v := .ref ad35) X hK hI 4 11 rfl in_X4 rfl q287 rfl (xgr_spec ead35) dX4_take_140 ?_
  refine lv_iconst (v := 0) hx hb dX4_take_143 (by decide) ?_
  refine lv_aload_n hx hb dX4_take_144 rfl (lv_at hl 0 rfl) ?_
  obtain ⟨ad36, ead36, hs⟩ := hs
  refine x_get (v := .ref ad36) X hK hI 4 11 rfl in_X4 rfl q287 rfl (xgr_spec ead36) dX4_take_145 ?_
  refine lv_iconst (v := 0) hx hb dX4_take_148 (by decide) ?_
  refine lv_aload_n hx hb dX4_take_149 rfl (lv_at hl 0 rfl) ?_
  obtain ⟨v37, ev37, hs⟩ := hs
  refine x_get (v := .int v37) X hK hI 4 1 rfl in_X4 rfl q254 rfl (xgi_spec ev37) dX4_take_150 ?_
  refine x_cpi 0 (Or.inl rfl) (rest := []) X hK hI q953 hs hl.1 (Nat.le_of_ble_eq_true rfl) (Nat.le_of_ble_eq_true rfl) dX4_take_153 (fun C38 H locs hs9 hI => ?_)
  replace hs := hs9
  refine lv_aload_n hx hb dX4_take_156 rfl (lv_at hl 1 rfl) ?_
  obtain ⟨ad39, ead39, hs⟩ := hs
  refine x_get (v := .ref ad39) X hK hI 4 12 rfl in_X4 rfl q289 rfl (xgr_spec ead39) dX4_take_157 ?_
  refine lv_iconst (v := 0) hx hb dX4_take_160 (by decide) ?_
  refine lv_aload_n hx hb dX4_take_161 rfl (lv_at hl 0 rfl) ?_
  obtain ⟨ad40, ead40, hs⟩ := hs
  refine x_get (v := .ref ad40) X hK hI 4 12 rfl in_X4 rfl q289 rfl (xgr_spec ead40) dX4_take_162 ?_
  refine lv_iconst (v := 0) hx hb dX4_take_165 (by decide) ?_
  refine lv_aload_n hx hb dX4_take_166 rfl (lv_at hl 0 rfl) ?_
  obtain ⟨v41, ev41, hs⟩ := hs
  refine x_get (v := .int v41) X hK hI 4 1 rfl in_X4 rfl q254 rfl (xgi_spec ev41) dX4_take_167 ?_
  refine x_cpi 0 (Or.inl rfl) (rest := []) X hK hI q953 hs hl.1 (Nat.le_of_ble_eq_true rfl) (Nat.le_of_ble_eq_true rfl) dX4_take_170 (fun C42 H locs hs9 hI => ?_)
  replace hs := hs9
  refine lv_aload_n hx hb dX4_take_173 rfl (lv_at hl 0 rfl) ?_
  exact x_retr X hK hI hs (Nat.le_of_ble_eq_true rfl) (Nat.le_of_ble_eq_true rfl) dX4_take_174
def x_X20_init (a0 : Nat) (a1 : Nat) (a2 : Nat) (C : XH) (K : XH → Prop) : Prop := obd (xpv C (xis 20) a0 0 (.ref a1)) (fun C1 => obd (xpv C1 (xis 20) a0 1 (.ref a2)) (fun C2 => K C2))
theorem iX20_init : xInf yX20_init cX20_init 3 none 2 := ⟨q958, by decide +kernel⟩
set_option maxHeartbeats 4000000 in
theorem xet_X20_init (l : Launch) (a0 : Nat) (a1 : Nat) (a2 : Nat) (C : XH) (K : XH → Prop) (hs : x_X20_init a0 a1 a2 C K) : xMetv l yX20_init (ws_ yX20_init cX20_init 3 none) 1 24 0 0 C [.ref a0, .ref a1, .ref a2] K := by
  intro D dT adK adV sz
  refine xEnter (own := RX20) (Qc := xQv D dT K) (by decide) rfl (by rfl) ?_
  intro p e s m args below meth c A ls X hnm hK hA hG hI hl
  have hx := X.1
  have hb := X.2.1
  have hts := X.2.2.2.2.1
  have hown := X.2.2.2.2.2.1
  have hl : lv_has ls 3 [(0, .ref a0), (1, .ref a1), (2, .ref a2)] := hl
  unfold x_X20_init at hs
  refine lv_aload_n hx hb dX20_init_0 rfl (lv_at hl 0 rfl) ?_
  refine W.objInit hx hb hown (hts _ q959) (hts _ q136) (hts _ q137) rfl (by rw [X.2.2.2.1]; exact hl.1) rfl dX20_init_1 (Nat.le_of_ble_eq_true rfl) (Nat.le_of_ble_eq_true rfl) ?_
  show W p l e _ s m args below meth c _ _ _ _ _ (F0 m 4 ls [])
  refine lv_aload_n hx hb dX20_init_4 rfl (lv_at hl 0 rfl) ?_
  refine lv_aload_n hx hb dX20_init_5 rfl (lv_at hl 1 rfl) ?_
  obtain ⟨C1, eC1, hs⟩ := hs
  refine x_putF X hK hI 20 0 rfl in_X20 tyX20 tyX20_ok nmX20 rfl q960 rfl rfl hnm rfl rfl eC1 dX20_init_6 (fun H locs hI => ?_)
  refine lv_aload_n hx hb dX20_init_9 rfl (lv_at hl 0 rfl) ?_
  refine lv_aload_n hx hb dX20_init_10 rfl (lv_at hl 2 rfl) ?_
  obtain ⟨C2, eC2, hs⟩ := hs
  refine x_putF X hK hI 20 1 rfl in_X20 tyX20 tyX20_ok nmX20 rfl q961 rfl rfl hnm rfl rfl eC2 dX20_init_11 (fun H locs hI => ?_)
  exact x_retv X hK hI hs (Nat.le_of_ble_eq_true rfl) (Nat.le_of_ble_eq_true rfl) dX20_init_14
def x_X9_length (a0 : Nat) (C : XH) (K : Int32 → XH → Prop) : Prop := obd (xgr C (xis 9) a0 0) (fun ad1 => obd (xan C 2 ad1) (fun v2 => K v2 C))
theorem iX9_length : xInf yX9_length cX9_length 1 (some .int) 0 := ⟨q994, by decide +kernel⟩
set_option maxHeartbeats 4000000 in
theorem xet_X9_length (l : Launch) (a0 : Nat) (C : XH) (K : Int32 → XH → Prop) (hs : x_X9_length a0 C K) : xMeti l yX9_length (ws_ yX9_length cX9_length 1 (some .int)) 0 0 0 0 C [.ref a0] K := by
  intro D dT adK adV sz
  refine xEnter (own := RX9) (Qc := xQi D dT K) (by decide) rfl (by rfl) ?_
  intro p e s m args below meth c A ls X hnm hK hA hG hI hl
  have hx := X.1
  have hb := X.2.1
  have hts := X.2.2.2.2.1
  have hown := X.2.2.2.2.2.1
  have hl : lv_has ls 1 [(0, .ref a0)] := hl
  unfold x_X9_length at hs
  refine lv_aload_n hx hb dX9_length_0 rfl (lv_at hl 0 rfl) ?_
  obtain ⟨ad1, ead1, hs⟩ := hs
  refine x_get (v := .ref ad1) X hK hI 9 0 rfl in_X9 rfl q502 rfl (xgr_spec ead1) dX9_length_1 ?_
  obtain ⟨v2, ev2, hs⟩ := hs
  refine x_alen X hK hI 2 rfl ev2 dX9_length_4 ?_
  exact x_reti X hK hI hs (Nat.le_of_ble_eq_true rfl) (Nat.le_of_ble_eq_true rfl) dX9_length_5
def x_X11_length (a0 : Nat) (C : XH) (K : Int32 → XH → Prop) : Prop := obd (xgr C (xis 11) a0 0) (fun ad1 => obd (xan C 0 ad1) (fun v2 => K v2 C))
theorem iX11_length : xInf yX11_length cX11_length 1 (some .int) 0 := ⟨q997, by decide +kernel⟩
set_option maxHeartbeats 4000000 in
theorem xet_X11_length (l : Launch) (a0 : Nat) (C : XH) (K : Int32 → XH → Prop) (hs : x_X11_length a0 C K) : xMeti l yX11_length (ws_ yX11_length cX11_length 1 (some .int)) 0 0 0 0 C [.ref a0] K := by
  intro D dT adK adV sz
  refine xEnter (own := RX11) (Qc := xQi D dT K) (by decide) rfl (by rfl) ?_
  intro p e s m args below meth c A ls X hnm hK hA hG hI hl
  have hx := X.1
  have hb := X.2.1
  have hts := X.2.2.2.2.1
  have hown := X.2.2.2.2.2.1
  have hl : lv_has ls 1 [(0, .ref a0)] := hl
  unfold x_X11_length at hs
  refine lv_aload_n hx hb dX11_length_0 rfl (lv_at hl 0 rfl) ?_
  obtain ⟨ad1, ead1, hs⟩ := hs
  refine x_get (v := .ref ad1) X hK hI 11 0 rfl in_X11 rfl q523 rfl (xgr_spec ead1) dX11_length_1 ?_
  obtain ⟨v2, ev2, hs⟩ := hs
  refine x_alen X hK hI 0 rfl ev2 dX11_length_4 ?_
  exact x_reti X hK hI hs (Nat.le_of_ble_eq_true rfl) (Nat.le_of_ble_eq_true rfl) dX11_length_5
def x_X12_length (a0 : Nat) (C : XH) (K : Int32 → XH → Prop) : Prop := obd (xgr C (xis 12) a0 0) (fun ad1 => obd (xan C 1 ad1) (fun v2 => K v2 C))
theorem iX12_length : xInf yX12_length cX12_length 1 (some .int) 0 := ⟨q1000, by decide +kernel⟩
set_option maxHeartbeats 4000000 in
theorem xet_X12_length (l : Launch) (a0 : Nat) (C : XH) (K : Int32 → XH → Prop) (hs : x_X12_length a0 C K) : xMeti l yX12_length (ws_ yX12_length cX12_length 1 (some .int)) 0 0 0 0 C [.ref a0] K := by
  intro D dT adK adV sz
  refine xEnter (own := RX12) (Qc := xQi D dT K) (by decide) rfl (by rfl) ?_
  intro p e s m args below meth c A ls X hnm hK hA hG hI hl
  have hx := X.1
  have hb := X.2.1
  have hts := X.2.2.2.2.1
  have hown := X.2.2.2.2.2.1
  have hl : lv_has ls 1 [(0, .ref a0)] := hl
  unfold x_X12_length at hs
  refine lv_aload_n hx hb dX12_length_0 rfl (lv_at hl 0 rfl) ?_
  obtain ⟨ad1, ead1, hs⟩ := hs
  refine x_get (v := .ref ad1) X hK hI 12 0 rfl in_X12 rfl q533 rfl (xgr_spec ead1) dX12_length_1 ?_
  obtain ⟨v2, ev2, hs⟩ := hs
  refine x_alen X hK hI 1 rfl ev2 dX12_length_4 ?_
  exact x_reti X hK hI hs (Nat.le_of_ble_eq_true rfl) (Nat.le_of_ble_eq_true rfl) dX12_length_5
def x_X10_length (a0 : Nat) (C : XH) (K : Int32 → XH → Prop) : Prop := obd (xgr C (xis 10) a0 0) (fun ad1 => obd (xan C 3 ad1) (fun v2 => K v2 C))
theorem iX10_length : xInf yX10_length cX10_length 1 (some .int) 0 := ⟨q1003, by decide +kernel⟩
set_option maxHeartbeats 4000000 in
theorem xet_X10_length (l : Launch) (a0 : Nat) (C : XH) (K : Int32 → XH → Prop) (hs : x_X10_length a0 C K) : xMeti l yX10_length (ws_ yX10_length cX10_length 1 (some .int)) 0 0 0 0 C [.ref a0] K := by
  intro D dT adK adV sz
  refine xEnter (own := RX10) (Qc := xQi D dT K) (by decide) rfl (by rfl) ?_
  intro p e s m args below meth c A ls X hnm hK hA hG hI hl
  have hx := X.1
  have hb := X.2.1
  have hts := X.2.2.2.2.1
  have hown := X.2.2.2.2.2.1
  have hl : lv_has ls 1 [(0, .ref a0)] := hl
  unfold x_X10_length at hs
  refine lv_aload_n hx hb dX10_length_0 rfl (lv_at hl 0 rfl) ?_
  obtain ⟨ad1, ead1, hs⟩ := hs
  refine x_get (v := .ref ad1) X hK hI 10 0 rfl in_X10 rfl q512 rfl (xgr_spec ead1) dX10_length_1 ?_
  obtain ⟨v2, ev2, hs⟩ := hs
  refine x_alen X hK hI 3 rfl ev2 dX10_length_4 ?_
  exact x_reti X hK hI hs (Nat.le_of_ble_eq_true rfl) (Nat.le_of_ble_eq_true rfl) dX10_length_5
def vd_X8_length (b : Nat)  (C : XH) (K : Int32 → XH → Prop) : Prop := obd (xcl C b) (fun ci => if ci = 9 then x_X9_length b  C K else if ci = 10 then x_X10_length b  C K else if ci = 11 then x_X11_length b  C K else if ci = 12 then x_X12_length b  C K else False)
theorem vdc_X8_length {p : Program} {l : Launch} {e : Env} {R : Room} {s : State} {m : MethodId} {args : Array Value} {below : List Frame} {meth : Method} {c : Code} {H : Heap} {locs : List Loc} {cells slots : Nat} {own : String} {cc : ByteArray} {nL : Nat} {ret : Option FieldType} {pc : Nat} {ls : Array Slot} {rest : List Value} {D : va_G} {dT : Nat → ClassId} {adK adV : Nat → Nat} {A : Nat → Prop} {C : XH} {index : Nat} (X : xX p s m args meth c own cc nL ret) (hK : va_K D aCl (aT dT) s) (hA : ∀ q : Nat, s.heap.size ≤ q → A q) (hG : xG adK adV A s s.heap) (hI : xI D dT A s.heap C H locs) (b : Nat)  (K : Int32 → XH → Prop) (hs : vd_X8_length b  C K) (w1 : Cond.methodLink own index ⟨RX8, "length", "()I"⟩ ∈ lw_all) (hR : 0 + 1 ≤ R.frames ∧ 8 + (0 + 11) + 1 ≤ R.locals) (hsz : ls.size = nL) (hrm : (rest.map fun v => v.category).sum ≤ 8) (hdg : decode cc pc = .ok (.invokevirtual index, 3)) (hf : cells + 0 ≤ R.cells ∧ slots + 0 ≤ R.slots) : xCtx p l e R s m args below meth c H locs cells slots 0 0 D dT C pc ls ([] ++ .ref b :: rest) rest (fun D dT A => xQi D dT K A) (.ref b :: []) := by
  obtain ⟨ci, hci, hs⟩ := hs
  obtain ⟨fs, hb⟩ := xcl_spec hci
  by_cases h9 : ci = 9
  · subst h9
    replace hs := ifp rfl hs
    exact x_runA (As := []) X hK hA hG hI hb (q := (RX9, TX9, 1)) rfl (xet_X9_length l b  _ _ hs) iX9_length RX8 w1 q991 (by decide) q992 q993 q110 (by decide +kernel) ⟨Nat.le_trans (Nat.le_of_ble_eq_true rfl) hR.1, Nat.le_trans (Nat.le_of_ble_eq_true rfl) hR.2⟩ rfl hsz rfl hrm hdg hf
  · replace hs := ifn h9 hs
    by_cases h10 : ci = 10
    · subst h10
      replace hs := ifp rfl hs
      exact x_runA (As := []) X hK hA hG hI hb (q := (RX10, TX10, 1)) rfl (xet_X10_length l b  _ _ hs) iX10_length RX8 w1 q991 (by decide) q1001 q1002 q111 (by decide +kernel) ⟨Nat.le_trans (Nat.le_of_ble_eq_true rfl) hR.1, Nat.le_trans (Nat.le_of_ble_eq_true rfl) hR.2⟩ rfl hsz rfl hrm hdg hf
    · replace hs := ifn h10 hs
      by_cases h11 : ci = 11
      · subst h11
        replace hs := ifp rfl hs
        exact x_runA (As := []) X hK hA hG hI hb (q := (RX11, TX11, 1)) rfl (xet_X11_length l b  _ _ hs) iX11_length RX8 w1 q991 (by decide) q995 q996 q112 (by decide +kernel) ⟨Nat.le_trans (Nat.le_of_ble_eq_true rfl) hR.1, Nat.le_trans (Nat.le_of_ble_eq_true rfl) hR.2⟩ rfl hsz rfl hrm hdg hf
      · replace hs := ifn h11 hs
        by_cases h12 : ci = 12
        · subst h12
          replace hs := ifp rfl hs
          exact x_runA (As := []) X hK hA hG hI hb (q := (RX12, TX12, 1)) rfl (xet_X12_length l b  _ _ hs) iX12_length RX8 w1 q991 (by decide) q998 q999 q113 (by decide +kernel) ⟨Nat.le_trans (Nat.le_of_ble_eq_true rfl) hR.1, Nat.le_trans (Nat.le_of_ble_eq_true rfl) hR.2⟩ rfl hsz rfl hrm hdg hf
        · replace hs := ifn h12 hs
          exact hs.elim
def x_X20_ends (a0 : Nat) (C : XH) (K : Int32 → XH → Prop) : Prop := obd (xgi C (xis 20) a0 2) (fun v1 => obd (xgr C (xis 20) a0 0) (fun ad2 => vd_X8_length ad2 C (fun r4 C3 => (if v1 = r4 then K 1 C3 else K 0 C3))))
theorem iX20_ends : xInf yX20_ends cX20_ends 1 (some .boolean) 0 := ⟨q988, by decide +kernel⟩
set_option maxHeartbeats 4000000 in
theorem xet_X20_ends (l : Launch) (a0 : Nat) (C : XH) (K : Int32 → XH → Prop) (hs : x_X20_ends a0 C K) : xMetz l yX20_ends (ws_ yX20_ends cX20_ends 1 (some .boolean)) 1 20 0 0 C [.ref a0] K := by
  intro D dT adK adV sz
  refine xEnter (own := RX20) (Qc := xQz D dT K) (by decide) rfl (by rfl) ?_
  intro p e s m args below meth c A ls X hnm hK hA hG hI hl
  have hx := X.1
  have hb := X.2.1
  have hts := X.2.2.2.2.1
  have hown := X.2.2.2.2.2.1
  have hl : lv_has ls 1 [(0, .ref a0)] := hl
  unfold x_X20_ends at hs
  refine lv_aload_n hx hb dX20_ends_0 rfl (lv_at hl 0 rfl) ?_
  obtain ⟨v1, ev1, hs⟩ := hs
  refine x_get (v := .int v1) X hK hI 20 2 rfl in_X20 rfl q962 rfl (xgi_spec ev1) dX20_ends_1 ?_
  refine lv_aload_n hx hb dX20_ends_4 rfl (lv_at hl 0 rfl) ?_
  obtain ⟨ad2, ead2, hs⟩ := hs
  refine x_get (v := .ref ad2) X hK hI 20 0 rfl in_X20 rfl q960 rfl (xgr_spec ead2) dX20_ends_5 ?_
  refine x_goi hA hI (vdc_X8_length (rest := [.int v1]) X hK hA hG hI ad2 _ hs q989 ⟨(Nat.le_of_ble_eq_true rfl), (Nat.le_of_ble_eq_true rfl)⟩ hl.1 (Nat.le_of_ble_eq_true rfl) dX20_ends_8 ⟨(Nat.le_of_ble_eq_true rfl), (Nat.le_of_ble_eq_true rfl)⟩) (fun r4 C3 H locs hs9 hI => ?_)
  replace hs := hs9
  refine lv_icmp_ne (tgt := 18) hx hb dX20_ends_11 (by decide) (fun c4 => ?_) (fun c4 => ?_)
  · replace hs := ifn c4 hs
    refine lv_iconst (v := 0) hx hb dX20_ends_18 (by decide) ?_
    exact x_retz X hK hI isB0 hs (Nat.le_of_ble_eq_true rfl) (Nat.le_of_ble_eq_true rfl) dX20_ends_19
  · replace hs := ifp c4 hs
    refine lv_iconst (v := 1) hx hb dX20_ends_14 (by decide) ?_
    refine lv_goto (tgt := 19) hx hb dX20_ends_15 (by decide) ?_
    exact x_retz X hK hI isB1 hs (Nat.le_of_ble_eq_true rfl) (Nat.le_of_ble_eq_true rfl) dX20_ends_19
def x_X21_init (a0 : Nat) (a1 : Int32) (C : XH) (K : XH → Prop) : Prop := x_J1_init_2_21 a0 C (fun C1 => obd (xpv C1 (xis 21) a0 6 (.int a1)) (fun C2 => K C2))
theorem iX21_init : xInf yX21_init cX21_init 2 none 1 := ⟨q1085, by decide +kernel⟩
set_option maxHeartbeats 4000000 in
theorem xet_X21_init (l : Launch) (a0 : Nat) (a1 : Int32) (C : XH) (K : XH → Prop) (hs : x_X21_init a0 a1 C K) : xMetv l yX21_init (ws_ yX21_init cX21_init 2 none) 3 72 0 0 C [.ref a0, .int a1] K := by
  intro D dT adK adV sz
  refine xEnter (own := RX21) (Qc := xQv D dT K) (by decide) rfl (by rfl) ?_
  intro p e s m args below meth c A ls X hnm hK hA hG hI hl
  have hx := X.1
  have hb := X.2.1
  have hts := X.2.2.2.2.1
  have hown := X.2.2.2.2.2.1
  have hl : lv_has ls 2 [(0, .ref a0), (1, .int a1)] := hl
  unfold x_X21_init at hs
  refine lv_aload_n hx hb dX21_init_0 rfl (lv_at hl 0 rfl) ?_
  refine lv_null hx hb dX21_init_1 ?_
  refine lv_null hx hb dX21_init_2 ?_
  refine lv_iconst (v := 0) hx hb dX21_init_3 (by decide) ?_
  refine lv_iconst (v := 0) hx hb dX21_init_4 (by decide) ?_
  refine x_gov hA hI (x_runI (As := [.null, .null, .int 0, .int 0]) (rest := []) X hK hA hG hI (xet_J1_init_2_21 l a0 _ _ hs) iJ1_init_2 rfl q1086 q458 q102 ⟨(Nat.le_of_ble_eq_true rfl), (Nat.le_of_ble_eq_true rfl)⟩ rfl hl.1 rfl (Nat.le_of_ble_eq_true rfl) dX21_init_5 ⟨(Nat.le_of_ble_eq_true rfl), (Nat.le_of_ble_eq_true rfl)⟩) (fun C1 H locs hs9 hI => ?_)
  replace hs := hs9
  refine lv_aload_n hx hb dX21_init_8 rfl (lv_at hl 0 rfl) ?_
  refine lv_iload_n hx hb dX21_init_9 rfl (lv_at hl 1 rfl) ?_
  obtain ⟨C2, eC2, hs⟩ := hs
  refine x_putF X hK hI 21 6 rfl in_X21 tyX21 tyX21_ok nmX21 rfl q1087 rfl rfl hnm rfl rfl eC2 dX21_init_10 (fun H locs hI => ?_)
  exact x_retv X hK hI hs (Nat.le_of_ble_eq_true rfl) (Nat.le_of_ble_eq_true rfl) dX21_init_13
def x_X20_hasRoom (a0 : Nat) (a1 : Int32) (a2 : Int32) (C : XH) (K : XH → Prop) (E : Nat → XH → Prop) : Prop := (if a1 = 0 then xnew C (.inr (21, [.null, .null, .null, .null, .null, .int 0, .int 0])) (fun ad1 C2 => x_X21_init ad1 a2 C2 (fun C3 => (xcl C3 ad1 = some 21 ∧ E ad1 C3))) else K C)
theorem iX20_hasRoom : xInf yX20_hasRoom cX20_hasRoom 3 none 2 := ⟨q1096, by decide +kernel⟩
set_option maxHeartbeats 4000000 in
theorem xet_X20_hasRoom (l : Launch) (hl0 : l.stackTraces = false) (a0 : Nat) (a1 : Int32) (a2 : Int32) (C : XH) (K : XH → Prop) (E : Nat → XH → Prop) (hs : x_X20_hasRoom a0 a1 a2 C K E) : xMetX l yX20_hasRoom (ws_ yX20_hasRoom cX20_hasRoom 3 none) 4 93 1 7 C [.ref a0, .int a1, .int a2] (fun D dT A => xQv D dT K A) (xEK RX21 E) := by
  intro D dT adK adV sz
  refine xEnterT (own := RX20) (Qc := xQv D dT K) (XC := xXC D dT (xEK RX21 E)) (by decide) rfl (by rfl) ?_
  intro p e s m args below meth c A ls X hnm hK hA hG hT hI hl
  have hx := X.1
  have hb := X.2.1
  have hts := X.2.2.2.2.1
  have hown := X.2.2.2.2.2.1
  have hl : lv_has ls 3 [(0, .ref a0), (1, .int a1), (2, .int a2)] := hl
  unfold x_X20_hasRoom at hs
  refine lv_iload_n hx hb dX20_hasRoom_0 rfl (lv_at hl 1 rfl) ?_
  refine lv_if_ne (tgt := 13) hx hb dX20_hasRoom_1 (by decide) (fun c4 => ?_) (fun c4 => ?_)
  · replace hs := ifn c4 hs
    exact vx_ret (x_retv X hK hI hs (Nat.le_of_ble_eq_true rfl) (Nat.le_of_ble_eq_true rfl) dX20_hasRoom_13)
  · replace hs := ifp c4 hs
    refine x_new X hK hI hA 21 (fs := [.null, .null, .null, .null, .null, .int 0, .int 0]) rfl in_X21 tyX21 tyX21_ok q1074 q1075 q128 rfl (Nat.le_of_ble_eq_true rfl) (Nat.le_of_ble_eq_true rfl) hs dX20_hasRoom_4 (fun ad1 C2 H hs9 hI => ?_)
    replace hs := hs9
    refine lv_dup hx hb dX20_hasRoom_7 rfl ?_
    refine lv_iload_n hx hb dX20_hasRoom_8 rfl (lv_at hl 2 rfl) ?_
    refine x_gov hA hI (x_runI (As := [.int a2]) (rest := [.ref ad1]) X hK hA hG hI (xet_X21_init l ad1 a2 _ _ hs) iX21_init rfl q1083 q1084 q128 ⟨(Nat.le_of_ble_eq_true rfl), (Nat.le_of_ble_eq_true rfl)⟩ rfl hl.1 rfl (Nat.le_of_ble_eq_true rfl) dX20_hasRoom_9 ⟨(Nat.le_of_ble_eq_true rfl), (Nat.le_of_ble_eq_true rfl)⟩) (fun C3 H locs hs9 hI => ?_)
    replace hs := hs9
    obtain ⟨hf3, hs⟩ := hs
    obtain ⟨f3, hf3⟩ := xcl_spec hf3
    obtain ⟨ce, hce, hvm, hcl⟩ := x_thrown hK hI hf3 rfl
    refine vx_athrow hx hb dX20_hasRoom_12 ?_
    exact x_pass X hK hT rfl hI hce hvm hcl ⟨rfl, hs⟩ (Nat.le_of_ble_eq_true rfl) (Nat.le_of_ble_eq_true rfl)
def x_X9_get (a0 : Nat) (a1 : Int32) (C : XH) (K : Int64 → XH → Prop) : Prop := obd (xgr C (xis 9) a0 0) (fun ad1 => obd (xai C 2 ad1 a1) (fun v2 => K ((v2 : Int32).toInt64) C))
theorem iX9_get : xInf yX9_get cX9_get 2 (some .long) 1 := ⟨q635, by decide +kernel⟩
set_option maxHeartbeats 4000000 in
theorem xet_X9_get (l : Launch) (a0 : Nat) (a1 : Int32) (C : XH) (K : Int64 → XH → Prop) (hs : x_X9_get a0 a1 C K) : xMetl l yX9_get (ws_ yX9_get cX9_get 2 (some .long)) 0 0 0 0 C [.ref a0, .int a1] K := by
  intro D dT adK adV sz
  refine xEnter (own := RX9) (Qc := xQl D dT K) (by decide) rfl (by rfl) ?_
  intro p e s m args below meth c A ls X hnm hK hA hG hI hl
  have hx := X.1
  have hb := X.2.1
  have hts := X.2.2.2.2.1
  have hown := X.2.2.2.2.2.1
  have hl : lv_has ls 2 [(0, .ref a0), (1, .int a1)] := hl
  unfold x_X9_get at hs
  refine lv_aload_n hx hb dX9_get_0 rfl (lv_at hl 0 rfl) ?_
  obtain ⟨ad1, ead1, hs⟩ := hs
  refine x_get (v := .ref ad1) X hK hI 9 0 rfl in_X9 rfl q502 rfl (xgr_spec ead1) dX9_get_1 ?_
  refine lv_iload_n hx hb dX9_get_4 rfl (lv_at hl 1 rfl) ?_
  obtain ⟨v2, ev2, hs⟩ := hs
  refine x_bald X hK hI ev2 dX9_get_5 ?_
  refine lv_i2l (v := ((v2 : Int32).toInt64)) hx hb dX9_get_6 rfl ?_
  exact x_retl X hK hI hs (Nat.le_of_ble_eq_true rfl) (Nat.le_of_ble_eq_true rfl) dX9_get_7
def x_X11_get (a0 : Nat) (a1 : Int32) (C : XH) (K : Int64 → XH → Prop) : Prop := obd (xgr C (xis 11) a0 0) (fun ad1 => obd (xai C 0 ad1 a1) (fun v2 => K ((v2 : Int32).toInt64) C))
theorem iX11_get : xInf yX11_get cX11_get 2 (some .long) 1 := ⟨q638, by decide +kernel⟩
set_option maxHeartbeats 4000000 in
theorem xet_X11_get (l : Launch) (a0 : Nat) (a1 : Int32) (C : XH) (K : Int64 → XH → Prop) (hs : x_X11_get a0 a1 C K) : xMetl l yX11_get (ws_ yX11_get cX11_get 2 (some .long)) 0 0 0 0 C [.ref a0, .int a1] K := by
  intro D dT adK adV sz
  refine xEnter (own := RX11) (Qc := xQl D dT K) (by decide) rfl (by rfl) ?_
  intro p e s m args below meth c A ls X hnm hK hA hG hI hl
  have hx := X.1
  have hb := X.2.1
  have hts := X.2.2.2.2.1
  have hown := X.2.2.2.2.2.1
  have hl : lv_has ls 2 [(0, .ref a0), (1, .int a1)] := hl
  unfold x_X11_get at hs
  refine lv_aload_n hx hb dX11_get_0 rfl (lv_at hl 0 rfl) ?_
  obtain ⟨ad1, ead1, hs⟩ := hs
  refine x_get (v := .ref ad1) X hK hI 11 0 rfl in_X11 rfl q523 rfl (xgr_spec ead1) dX11_get_1 ?_
  refine lv_iload_n hx hb dX11_get_4 rfl (lv_at hl 1 rfl) ?_
  obtain ⟨v2, ev2, hs⟩ := hs
  refine x_iald X hK hI ev2 dX11_get_5 ?_
  refine lv_i2l (v := ((v2 : Int32).toInt64)) hx hb dX11_get_6 rfl ?_
  exact x_retl X hK hI hs (Nat.le_of_ble_eq_true rfl) (Nat.le_of_ble_eq_true rfl) dX11_get_7
def x_X12_get (a0 : Nat) (a1 : Int32) (C : XH) (K : Int64 → XH → Prop) : Prop := obd (xgr C (xis 12) a0 0) (fun ad1 => obd (xal C ad1 a1) (fun v2 => K v2 C))
theorem iX12_get : xInf yX12_get cX12_get 2 (some .long) 1 := ⟨q641, by decide +kernel⟩
set_option maxHeartbeats 4000000 in
theorem xet_X12_get (l : Launch) (a0 : Nat) (a1 : Int32) (C : XH) (K : Int64 → XH → Prop) (hs : x_X12_get a0 a1 C K) : xMetl l yX12_get (ws_ yX12_get cX12_get 2 (some .long)) 0 0 0 0 C [.ref a0, .int a1] K := by
  intro D dT adK adV sz
  refine xEnter (own := RX12) (Qc := xQl D dT K) (by decide) rfl (by rfl) ?_
  intro p e s m args below meth c A ls X hnm hK hA hG hI hl
  have hx := X.1
  have hb := X.2.1
  have hts := X.2.2.2.2.1
  have hown := X.2.2.2.2.2.1
  have hl : lv_has ls 2 [(0, .ref a0), (1, .int a1)] := hl
  unfold x_X12_get at hs
  refine lv_aload_n hx hb dX12_get_0 rfl (lv_at hl 0 rfl) ?_
  obtain ⟨ad1, ead1, hs⟩ := hs
  refine x_get (v := .ref ad1) X hK hI 12 0 rfl in_X12 rfl q533 rfl (xgr_spec ead1) dX12_get_1 ?_
  refine lv_iload_n hx hb dX12_get_4 rfl (lv_at hl 1 rfl) ?_
  obtain ⟨v2, ev2, hs⟩ := hs
  refine x_lald X hK hI ev2 dX12_get_5 ?_
  exact x_retl X hK hI hs (Nat.le_of_ble_eq_true rfl) (Nat.le_of_ble_eq_true rfl) dX12_get_6
def x_X10_get (a0 : Nat) (a1 : Int32) (C : XH) (K : Int64 → XH → Prop) : Prop := obd (xgr C (xis 10) a0 0) (fun ad1 => obd (xai C 3 ad1 a1) (fun v2 => K ((v2 : Int32).toInt64) C))
theorem iX10_get : xInf yX10_get cX10_get 2 (some .long) 1 := ⟨q644, by decide +kernel⟩
set_option maxHeartbeats 4000000 in
theorem xet_X10_get (l : Launch) (a0 : Nat) (a1 : Int32) (C : XH) (K : Int64 → XH → Prop) (hs : x_X10_get a0 a1 C K) : xMetl l yX10_get (ws_ yX10_get cX10_get 2 (some .long)) 0 0 0 0 C [.ref a0, .int a1] K := by
  intro D dT adK adV sz
  refine xEnter (own := RX10) (Qc := xQl D dT K) (by decide) rfl (by rfl) ?_
  intro p e s m args below meth c A ls X hnm hK hA hG hI hl
  have hx := X.1
  have hb := X.2.1
  have hts := X.2.2.2.2.1
  have hown := X.2.2.2.2.2.1
  have hl : lv_has ls 2 [(0, .ref a0), (1, .int a1)] := hl
  unfold x_X10_get at hs
  refine lv_aload_n hx hb dX10_get_0 rfl (lv_at hl 0 rfl) ?_
  obtain ⟨ad1, ead1, hs⟩ := hs
  refine x_get (v := .ref ad1) X hK hI 10 0 rfl in_X10 rfl q512 rfl (xgr_spec ead1) dX10_get_1 ?_
  refine lv_iload_n hx hb dX10_get_4 rfl (lv_at hl 1 rfl) ?_
  obtain ⟨v2, ev2, hs⟩ := hs
  refine x_sald X hK hI ev2 dX10_get_5 ?_
  refine lv_i2l (v := ((v2 : Int32).toInt64)) hx hb dX10_get_6 rfl ?_
  exact x_retl X hK hI hs (Nat.le_of_ble_eq_true rfl) (Nat.le_of_ble_eq_true rfl) dX10_get_7
def vd_X8_get (b : Nat) (a1 : Int32) (C : XH) (K : Int64 → XH → Prop) : Prop := obd (xcl C b) (fun ci => if ci = 9 then x_X9_get b a1 C K else if ci = 10 then x_X10_get b a1 C K else if ci = 11 then x_X11_get b a1 C K else if ci = 12 then x_X12_get b a1 C K else False)
theorem vdc_X8_get {p : Program} {l : Launch} {e : Env} {R : Room} {s : State} {m : MethodId} {args : Array Value} {below : List Frame} {meth : Method} {c : Code} {H : Heap} {locs : List Loc} {cells slots : Nat} {own : String} {cc : ByteArray} {nL : Nat} {ret : Option FieldType} {pc : Nat} {ls : Array Slot} {rest : List Value} {D : va_G} {dT : Nat → ClassId} {adK adV : Nat → Nat} {A : Nat → Prop} {C : XH} {index : Nat} (X : xX p s m args meth c own cc nL ret) (hK : va_K D aCl (aT dT) s) (hA : ∀ q : Nat, s.heap.size ≤ q → A q) (hG : xG adK adV A s s.heap) (hI : xI D dT A s.heap C H locs) (b : Nat) (a1 : Int32) (K : Int64 → XH → Prop) (hs : vd_X8_get b a1 C K) (w1 : Cond.methodLink own index ⟨RX8, "get", "(I)J"⟩ ∈ lw_all) (hR : 0 + 1 ≤ R.frames ∧ 8 + (0 + 11) + 2 ≤ R.locals) (hsz : ls.size = nL) (hrm : (rest.map fun v => v.category).sum ≤ 8) (hdg : decode cc pc = .ok (.invokevirtual index, 3)) (hf : cells + 0 ≤ R.cells ∧ slots + 0 ≤ R.slots) : xCtx p l e R s m args below meth c H locs cells slots 0 0 D dT C pc ls ([.int a1] ++ .ref b :: rest) rest (fun D dT A => xQl D dT K A) (.ref b :: [.int a1]) := by
  obtain ⟨ci, hci, hs⟩ := hs
  obtain ⟨fs, hb⟩ := xcl_spec hci
  by_cases h9 : ci = 9
  · subst h9
    replace hs := ifp rfl hs
    exact x_runA (As := [.int a1]) X hK hA hG hI hb (q := (RX9, TX9, 1)) rfl (xet_X9_get l b a1 _ _ hs) iX9_get RX8 w1 q632 (by decide) q633 q634 q110 (by decide +kernel) ⟨Nat.le_trans (Nat.le_of_ble_eq_true rfl) hR.1, Nat.le_trans (Nat.le_of_ble_eq_true rfl) hR.2⟩ rfl hsz rfl hrm hdg hf
  · replace hs := ifn h9 hs
    by_cases h10 : ci = 10
    · subst h10
      replace hs := ifp rfl hs
      exact x_runA (As := [.int a1]) X hK hA hG hI hb (q := (RX10, TX10, 1)) rfl (xet_X10_get l b a1 _ _ hs) iX10_get RX8 w1 q632 (by decide) q642 q643 q111 (by decide +kernel) ⟨Nat.le_trans (Nat.le_of_ble_eq_true rfl) hR.1, Nat.le_trans (Nat.le_of_ble_eq_true rfl) hR.2⟩ rfl hsz rfl hrm hdg hf
    · replace hs := ifn h10 hs
      by_cases h11 : ci = 11
      · subst h11
        replace hs := ifp rfl hs
        exact x_runA (As := [.int a1]) X hK hA hG hI hb (q := (RX11, TX11, 1)) rfl (xet_X11_get l b a1 _ _ hs) iX11_get RX8 w1 q632 (by decide) q636 q637 q112 (by decide +kernel) ⟨Nat.le_trans (Nat.le_of_ble_eq_true rfl) hR.1, Nat.le_trans (Nat.le_of_ble_eq_true rfl) hR.2⟩ rfl hsz rfl hrm hdg hf
      · replace hs := ifn h11 hs
        by_cases h12 : ci = 12
        · subst h12
          replace hs := ifp rfl hs
          exact x_runA (As := [.int a1]) X hK hA hG hI hb (q := (RX12, TX12, 1)) rfl (xet_X12_get l b a1 _ _ hs) iX12_get RX8 w1 q632 (by decide) q639 q640 q113 (by decide +kernel) ⟨Nat.le_trans (Nat.le_of_ble_eq_true rfl) hR.1, Nat.le_trans (Nat.le_of_ble_eq_true rfl) hR.2⟩ rfl hsz rfl hrm hdg hf
        · replace hs := ifn h12 hs
          exact hs.elim
def x_X8_asInt (a0 : Nat) (a1 : Int32) (C : XH) (K : Int32 → XH → Prop) : Prop := vd_X8_get a0 a1 C (fun r2 C1 => K ((r2 : Int64).toInt32) C1)
theorem iX8_asInt : xInf yX8_asInt cX8_asInt 2 (some .int) 1 := ⟨q1011, by decide +kernel⟩
set_option maxHeartbeats 4000000 in
theorem xet_X8_asInt (l : Launch) (a0 : Nat) (a1 : Int32) (C : XH) (K : Int32 → XH → Prop) (hs : x_X8_asInt a0 a1 C K) : xMeti l yX8_asInt (ws_ yX8_asInt cX8_asInt 2 (some .int)) 1 21 0 0 C [.ref a0, .int a1] K := by
  intro D dT adK adV sz
  refine xEnter (own := RX8) (Qc := xQi D dT K) (by decide) rfl (by rfl) ?_
  intro p e s m args below meth c A ls X hnm hK hA hG hI hl
  have hx := X.1
  have hb := X.2.1
  have hts := X.2.2.2.2.1
  have hown := X.2.2.2.2.2.1
  have hl : lv_has ls 2 [(0, .ref a0), (1, .int a1)] := hl
  unfold x_X8_asInt at hs
  refine lv_aload_n hx hb dX8_asInt_0 rfl (lv_at hl 0 rfl) ?_
  refine lv_iload_n hx hb dX8_asInt_1 rfl (lv_at hl 1 rfl) ?_
  refine x_gol hA hI (vdc_X8_get (rest := []) X hK hA hG hI a0 a1 _ hs q1012 ⟨(Nat.le_of_ble_eq_true rfl), (Nat.le_of_ble_eq_true rfl)⟩ hl.1 (Nat.le_of_ble_eq_true rfl) dX8_asInt_2 ⟨(Nat.le_of_ble_eq_true rfl), (Nat.le_of_ble_eq_true rfl)⟩) (fun r2 C1 H locs hs9 hI => ?_)
  replace hs := hs9
  refine lv_l2i (v := ((r2 : Int64).toInt32)) hx hb dX8_asInt_5 rfl ?_
  exact x_reti X hK hI hs (Nat.le_of_ble_eq_true rfl) (Nat.le_of_ble_eq_true rfl) dX8_asInt_6
def vd_X8_asInt (b : Nat) (a1 : Int32) (C : XH) (K : Int32 → XH → Prop) : Prop := obd (xcl C b) (fun ci => if ci = 9 then x_X8_asInt b a1 C K else if ci = 10 then x_X8_asInt b a1 C K else if ci = 11 then x_X8_asInt b a1 C K else if ci = 12 then x_X8_asInt b a1 C K else False)
theorem vdc_X8_asInt {p : Program} {l : Launch} {e : Env} {R : Room} {s : State} {m : MethodId} {args : Array Value} {below : List Frame} {meth : Method} {c : Code} {H : Heap} {locs : List Loc} {cells slots : Nat} {own : String} {cc : ByteArray} {nL : Nat} {ret : Option FieldType} {pc : Nat} {ls : Array Slot} {rest : List Value} {D : va_G} {dT : Nat → ClassId} {adK adV : Nat → Nat} {A : Nat → Prop} {C : XH} {index : Nat} (X : xX p s m args meth c own cc nL ret) (hK : va_K D aCl (aT dT) s) (hA : ∀ q : Nat, s.heap.size ≤ q → A q) (hG : xG adK adV A s s.heap) (hI : xI D dT A s.heap C H locs) (b : Nat) (a1 : Int32) (K : Int32 → XH → Prop) (hs : vd_X8_asInt b a1 C K) (w1 : Cond.methodLink own index ⟨RX8, "asInt", "(I)I"⟩ ∈ lw_all) (hR : 1 + 1 ≤ R.frames ∧ 8 + (0 + 11) + 23 ≤ R.locals) (hsz : ls.size = nL) (hrm : (rest.map fun v => v.category).sum ≤ 8) (hdg : decode cc pc = .ok (.invokevirtual index, 3)) (hf : cells + 0 ≤ R.cells ∧ slots + 0 ≤ R.slots) : xCtx p l e R s m args below meth c H locs cells slots 0 0 D dT C pc ls ([.int a1] ++ .ref b :: rest) rest (fun D dT A => xQi D dT K A) (.ref b :: [.int a1]) := by
  obtain ⟨ci, hci, hs⟩ := hs
  obtain ⟨fs, hb⟩ := xcl_spec hci
  by_cases h9 : ci = 9
  · subst h9
    replace hs := ifp rfl hs
    exact x_runO (As := [.int a1]) X hK hA hG hI hb (q := (RX9, TX9, 1)) rfl (xet_X8_asInt l b a1 _ _ hs) iX8_asInt RX8 w1 q1006 q1005 q1007 q1005 q109 q1011 (by decide +kernel) ⟨Nat.le_trans (Nat.le_of_ble_eq_true rfl) hR.1, Nat.le_trans (Nat.le_of_ble_eq_true rfl) hR.2⟩ rfl hsz rfl hrm hdg hf
  · replace hs := ifn h9 hs
    by_cases h10 : ci = 10
    · subst h10
      replace hs := ifp rfl hs
      exact x_runO (As := [.int a1]) X hK hA hG hI hb (q := (RX10, TX10, 1)) rfl (xet_X8_asInt l b a1 _ _ hs) iX8_asInt RX8 w1 q1006 q1005 q1010 q1005 q109 q1011 (by decide +kernel) ⟨Nat.le_trans (Nat.le_of_ble_eq_true rfl) hR.1, Nat.le_trans (Nat.le_of_ble_eq_true rfl) hR.2⟩ rfl hsz rfl hrm hdg hf
    · replace hs := ifn h10 hs
      by_cases h11 : ci = 11
      · subst h11
        replace hs := ifp rfl hs
        exact x_runO (As := [.int a1]) X hK hA hG hI hb (q := (RX11, TX11, 1)) rfl (xet_X8_asInt l b a1 _ _ hs) iX8_asInt RX8 w1 q1006 q1005 q1008 q1005 q109 q1011 (by decide +kernel) ⟨Nat.le_trans (Nat.le_of_ble_eq_true rfl) hR.1, Nat.le_trans (Nat.le_of_ble_eq_true rfl) hR.2⟩ rfl hsz rfl hrm hdg hf
      · replace hs := ifn h11 hs
        by_cases h12 : ci = 12
        · subst h12
          replace hs := ifp rfl hs
          exact x_runO (As := [.int a1]) X hK hA hG hI hb (q := (RX12, TX12, 1)) rfl (xet_X8_asInt l b a1 _ _ hs) iX8_asInt RX8 w1 q1006 q1005 q1009 q1005 q109 q1011 (by decide +kernel) ⟨Nat.le_trans (Nat.le_of_ble_eq_true rfl) hR.1, Nat.le_trans (Nat.le_of_ble_eq_true rfl) hR.2⟩ rfl hsz rfl hrm hdg hf
        · replace hs := ifn h12 hs
          exact hs.elim
def x_X20_digit (a0 : Nat) (C : XH) (K : Int32 → XH → Prop) : Prop := (xcl C a0 = some 20 ∧ x_X20_ends a0 C (fun r2 C1 => (if r2 = 0 then obd (xgr C1 (xis 20) a0 0) (fun ad4 => obd (xgi C1 (xis 20) a0 2) (fun v5 => vd_X8_asInt ad4 v5 C1 (fun r7 C6 => (if r7 < 48 then K 0 C6 else obd (xgr C6 (xis 20) a0 0) (fun ad8 => obd (xgi C6 (xis 20) a0 2) (fun v9 => vd_X8_asInt ad8 v9 C6 (fun r11 C10 => (if 57 < r11 then K 0 C10 else K 1 C10)))))))) else K 0 C1)))
theorem iX20_digit : xInf yX20_digit cX20_digit 1 (some .boolean) 0 := ⟨q1104, by decide +kernel⟩
set_option maxHeartbeats 4000000 in
theorem xet_X20_digit (l : Launch) (a0 : Nat) (C : XH) (K : Int32 → XH → Prop) (hs : x_X20_digit a0 C K) : xMetz l yX20_digit (ws_ yX20_digit cX20_digit 1 (some .boolean)) 2 42 0 0 C [.ref a0] K := by
  intro D dT adK adV sz
  refine xEnter (own := RX20) (Qc := xQz D dT K) (by decide) rfl (by rfl) ?_
  intro p e s m args below meth c A ls X hnm hK hA hG hI hl
  have hx := X.1
  have hb := X.2.1
  have hts := X.2.2.2.2.1
  have hown := X.2.2.2.2.2.1
  have hl : lv_has ls 1 [(0, .ref a0)] := hl
  unfold x_X20_digit at hs
  refine lv_aload_n hx hb dX20_digit_0 rfl (lv_at hl 0 rfl) ?_
  obtain ⟨h2, hs⟩ := hs
  obtain ⟨fh2, h2⟩ := xcl_spec h2
  refine x_goz hA hI (x_runV (As := []) (rest := []) X hK hA hG hI h2 (q := (RX20, TX20, 4)) rfl rfl (xet_X20_ends l a0 _ _ hs) iX20_ends q985 q987 qs7 q124 ⟨(Nat.le_of_ble_eq_true rfl), (Nat.le_of_ble_eq_true rfl)⟩ rfl hl.1 rfl (Nat.le_of_ble_eq_true rfl) dX20_digit_1 ⟨(Nat.le_of_ble_eq_true rfl), (Nat.le_of_ble_eq_true rfl)⟩) (fun r2 C1 H locs br2 hs9 hI => ?_)
  replace hs := hs9
  refine lv_if_ne (tgt := 43) hx hb dX20_digit_4 (by decide) (fun c13 => ?_) (fun c13 => ?_)
  · replace hs := ifn c13 hs
    refine lv_iconst (v := 0) hx hb dX20_digit_43 (by decide) ?_
    exact x_retz X hK hI isB0 hs (Nat.le_of_ble_eq_true rfl) (Nat.le_of_ble_eq_true rfl) dX20_digit_44
  · replace hs := ifp c13 hs
    refine lv_aload_n hx hb dX20_digit_7 rfl (lv_at hl 0 rfl) ?_
    obtain ⟨ad4, ead4, hs⟩ := hs
    refine x_get (v := .ref ad4) X hK hI 20 0 rfl in_X20 rfl q960 rfl (xgr_spec ead4) dX20_digit_8 ?_
    refine lv_aload_n hx hb dX20_digit_11 rfl (lv_at hl 0 rfl) ?_
    obtain ⟨v5, ev5, hs⟩ := hs
    refine x_get (v := .int v5) X hK hI 20 2 rfl in_X20 rfl q962 rfl (xgi_spec ev5) dX20_digit_12 ?_
    refine x_goi hA hI (vdc_X8_asInt (rest := []) X hK hA hG hI ad4 v5 _ hs q1004 ⟨(Nat.le_of_ble_eq_true rfl), (Nat.le_of_ble_eq_true rfl)⟩ hl.1 (Nat.le_of_ble_eq_true rfl) dX20_digit_15 ⟨(Nat.le_of_ble_eq_true rfl), (Nat.le_of_ble_eq_true rfl)⟩) (fun r7 C6 H locs hs9 hI => ?_)
    replace hs := hs9
    refine lv_bipush (v := 48) hx hb dX20_digit_18 (by decide) ?_
    refine lv_icmp_lt (tgt := 43) hx hb dX20_digit_20 (by decide) (fun c12 => ?_) (fun c12 => ?_)
    · replace hs := ifp c12 hs
      refine lv_iconst (v := 0) hx hb dX20_digit_43 (by decide) ?_
      exact x_retz X hK hI isB0 hs (Nat.le_of_ble_eq_true rfl) (Nat.le_of_ble_eq_true rfl) dX20_digit_44
    · replace hs := ifn c12 hs
      refine lv_aload_n hx hb dX20_digit_23 rfl (lv_at hl 0 rfl) ?_
      obtain ⟨ad8, ead8, hs⟩ := hs
      refine x_get (v := .ref ad8) X hK hI 20 0 rfl in_X20 rfl q960 rfl (xgr_spec ead8) dX20_digit_24 ?_
      refine lv_aload_n hx hb dX20_digit_27 rfl (lv_at hl 0 rfl) ?_
      obtain ⟨v9, ev9, hs⟩ := hs
      refine x_get (v := .int v9) X hK hI 20 2 rfl in_X20 rfl q962 rfl (xgi_spec ev9) dX20_digit_28 ?_
      refine x_goi hA hI (vdc_X8_asInt (rest := []) X hK hA hG hI ad8 v9 _ hs q1004 ⟨(Nat.le_of_ble_eq_true rfl), (Nat.le_of_ble_eq_true rfl)⟩ hl.1 (Nat.le_of_ble_eq_true rfl) dX20_digit_31 ⟨(Nat.le_of_ble_eq_true rfl), (Nat.le_of_ble_eq_true rfl)⟩) (fun r11 C10 H locs hs9 hI => ?_)
      replace hs := hs9
      refine lv_bipush (v := 57) hx hb dX20_digit_34 (by decide) ?_
      refine lv_icmp_gt (tgt := 43) hx hb dX20_digit_36 (by decide) (fun c11 => ?_) (fun c11 => ?_)
      · replace hs := ifp c11 hs
        refine lv_iconst (v := 0) hx hb dX20_digit_43 (by decide) ?_
        exact x_retz X hK hI isB0 hs (Nat.le_of_ble_eq_true rfl) (Nat.le_of_ble_eq_true rfl) dX20_digit_44
      · replace hs := ifn c11 hs
        refine lv_iconst (v := 1) hx hb dX20_digit_39 (by decide) ?_
        refine lv_goto (tgt := 44) hx hb dX20_digit_40 (by decide) ?_
        exact x_retz X hK hI isB1 hs (Nat.le_of_ble_eq_true rfl) (Nat.le_of_ble_eq_true rfl) dX20_digit_44
