set_option maxRecDepth 100000
def x_X0_show (a0 : Nat) (a1 : Int32) (a2 : Int32) (C : XH) (K : Int32 → XH → Prop) : Prop := (xcl C a0 = some 0 ∧ x_X0_shelf a0 a1 C (fun ad2 C1 => (if a2 = (-1) then obd (xpv C1 (xis 5) ad2 0 (.null)) (fun C15 => K 0 C15) else (xcl C1 a0 = some 0 ∧ x_X0_mustChild a0 a2 C1 (fun C4 => obd (xgr C4 (xis 0) a0 7) (fun ad6 => obd (xgr C4 (xis 4) ad6 6) (fun ad7 => obd (xar C4 7 ad7 a2) (fun ad8 => obd (xpv C4 (xis 5) ad2 0 (.ref ad8)) (fun C9 => K 1 C9))))) (fun ad10 C11 => (xcl C11 a0 = some 0 ∧ x_X0_refused a0 ad10 C11 (fun r13 C12 => K r13 C12)))))) (fun ad17 C18 => (xcl C18 a0 = some 0 ∧ x_X0_refused a0 ad17 C18 (fun r20 C19 => K r20 C19))))
theorem iX0_show : xInfW yX0_show cX0_show 4 (some .int) [(0, 17, 38, 21), (18, 37, 38, 21)] 2 := ⟨q648, by decide +kernel⟩
set_option maxHeartbeats 4000000 in
theorem xet_X0_show (l : Launch) (hl0 : l.stackTraces = false) (a0 : Nat) (a1 : Int32) (a2 : Int32) (C : XH) (K : Int32 → XH → Prop) (hs : x_X0_show a0 a1 a2 C K) : xMetX l yX0_show (wsW_ yX0_show cX0_show 4 (some .int) [(0, 17, 38, 21), (18, 37, 38, 21)]) 13 10322 5 1024 C [.ref a0, .int a1, .int a2] (fun D dT A => xQi D dT K A) xE0 := by
  intro D dT adK adV sz
  refine xEnterW (own := RX0) (Qc := xQi D dT K) (XC := xXC D dT xE0) (by decide) rfl (by rfl) ?_
  intro p e s m args below meth c A ls X hnm hK hA hG hT hI hl
  have hx := X.1
  have hb := X.2.1
  have hts := X.2.2.2.2.1
  have hown := X.2.2.2.2.2.1
  have hl : lv_has ls 4 [(0, .ref a0), (1, .int a1), (2, .int a2)] := hl
  unfold x_X0_show at hs
  refine lv_aload_n hx hb dX0_show_0 rfl (lv_at hl 0 rfl) ?_
  refine lv_iload_n hx hb dX0_show_1 rfl (lv_at hl 1 rfl) ?_
  obtain ⟨h2, hs⟩ := hs
  obtain ⟨fh2, h2⟩ := xcl_spec h2
  refine xT_gor hA hI (x_runVTW (As := [.int a1]) (rest := []) X hK hA hG hI h2 (q := (RX0, TX0, 10)) rfl rfl (xet_X0_shelf l hl0 a0 a1 _ _ _ hs) iX0_shelf q364 q366 qs0 q94 ⟨(Nat.le_of_ble_eq_true rfl), (Nat.le_of_ble_eq_true rfl)⟩ rfl hl.1 rfl (Nat.le_of_ble_eq_true rfl) dX0_show_2 ⟨(Nat.le_of_ble_eq_true rfl), (Nat.le_of_ble_eq_true rfl)⟩) (fun En ce ad17 C18 H locs hs9 hI hce hvm hcl => ?_) (fun ad2 C1 H locs hs9 hI => ?_)
  · obtain ⟨rfl, hs0⟩ := hs9
    replace hs := hs0
    refine x_catch (k := 0) (a1 := 0) (a2 := 17) (a3 := 38) (a4 := 21) X hG hT rfl (x_cov rfl) rfl (by decide) q363 (by decide) hce hvm hcl ?_
    refine lv_astore_n (lv' := [(3, .ref ad17), (0, .ref a0), (1, .int a1), (2, .int a2)]) hx hb dX0_show_38 rfl hl (by decide) rfl (fun ls hl => ?_)
    refine lv_aload_n hx hb dX0_show_39 rfl (lv_at hl 1 rfl) ?_
    refine lv_aload_n hx hb dX0_show_40 rfl (lv_at hl 0 rfl) ?_
    obtain ⟨h20, hs⟩ := hs
    obtain ⟨fh20, h20⟩ := xcl_spec h20
    refine x_goi hA hI (x_runV (As := [.ref ad17]) (rest := []) X hK hA hG hI h20 (q := (RX0, TX0, 10)) rfl rfl (xet_X0_refused l a0 ad17 _ _ hs) iX0_refused q538 q540 qs2 q94 ⟨(Nat.le_of_ble_eq_true rfl), (Nat.le_of_ble_eq_true rfl)⟩ rfl hl.1 rfl (Nat.le_of_ble_eq_true rfl) dX0_show_41 ⟨(Nat.le_of_ble_eq_true rfl), (Nat.le_of_ble_eq_true rfl)⟩) (fun r20 C19 H locs hs9 hI => ?_)
    replace hs := hs9
    exact vx_ret (x_reti X hK hI hs (Nat.le_of_ble_eq_true rfl) (Nat.le_of_ble_eq_true rfl) dX0_show_44)
  · replace hs := hs9
    refine lv_astore_n (lv' := [(3, .ref ad2), (0, .ref a0), (1, .int a1), (2, .int a2)]) hx hb dX0_show_5 rfl hl (by decide) rfl (fun ls hl => ?_)
    refine lv_iload_n hx hb dX0_show_6 rfl (lv_at hl 3 rfl) ?_
    refine lv_iconst (v := (-1)) hx hb dX0_show_7 (by decide) ?_
    refine lv_icmp_ne (tgt := 18) hx hb dX0_show_8 (by decide) (fun c15 => ?_) (fun c15 => ?_)
    · replace hs := ifn c15 hs
      refine lv_aload_n hx hb dX0_show_18 rfl (lv_at hl 1 rfl) ?_
      refine lv_iload_n hx hb dX0_show_19 rfl (lv_at hl 3 rfl) ?_
      obtain ⟨h4, hs⟩ := hs
      obtain ⟨fh4, h4⟩ := xcl_spec h4
      refine xT_gov hA hI (x_runVT (As := [.int a2]) (rest := []) X hK hA hG hI h4 (q := (RX0, TX0, 10)) rfl rfl (xet_X0_mustChild l hl0 a0 a2 _ _ _ hs) iX0_mustChild q649 q651 qs3 q94 ⟨(Nat.le_of_ble_eq_true rfl), (Nat.le_of_ble_eq_true rfl)⟩ rfl hl.1 rfl (Nat.le_of_ble_eq_true rfl) dX0_show_20 ⟨(Nat.le_of_ble_eq_true rfl), (Nat.le_of_ble_eq_true rfl)⟩) (fun En ce ad10 C11 H locs hs9 hI hce hvm hcl => ?_) (fun C4 H locs hs9 hI => ?_)
      · obtain ⟨rfl, hs0⟩ := hs9
        replace hs := hs0
        refine x_catch (k := 1) (a1 := 18) (a2 := 37) (a3 := 38) (a4 := 21) X hG hT rfl (x_cov rfl) rfl (by decide) q363 (by decide) hce hvm hcl ?_
        refine lv_astore_n (lv' := [(3, .ref ad10), (0, .ref a0), (1, .int a1), (2, .int a2)]) hx hb dX0_show_38 rfl hl (by decide) rfl (fun ls hl => ?_)
        refine lv_aload_n hx hb dX0_show_39 rfl (lv_at hl 1 rfl) ?_
        refine lv_aload_n hx hb dX0_show_40 rfl (lv_at hl 0 rfl) ?_
        obtain ⟨h13, hs⟩ := hs
        obtain ⟨fh13, h13⟩ := xcl_spec h13
        refine x_goi hA hI (x_runV (As := [.ref ad10]) (rest := []) X hK hA hG hI h13 (q := (RX0, TX0, 10)) rfl rfl (xet_X0_refused l a0 ad10 _ _ hs) iX0_refused q538 q540 qs2 q94 ⟨(Nat.le_of_ble_eq_true rfl), (Nat.le_of_ble_eq_true rfl)⟩ rfl hl.1 rfl (Nat.le_of_ble_eq_true rfl) dX0_show_41 ⟨(Nat.le_of_ble_eq_true rfl), (Nat.le_of_ble_eq_true rfl)⟩) (fun r13 C12 H locs hs9 hI => ?_)
        replace hs := hs9
        exact vx_ret (x_reti X hK hI hs (Nat.le_of_ble_eq_true rfl) (Nat.le_of_ble_eq_true rfl) dX0_show_44)
      · replace hs := hs9
        refine lv_aload_n hx hb dX0_show_23 rfl (lv_at hl 0 rfl) ?_
        refine lv_aload_n hx hb dX0_show_24 rfl (lv_at hl 1 rfl) ?_
        obtain ⟨ad6, ead6, hs⟩ := hs
        refine x_get (v := .ref ad6) X hK hI 0 7 rfl in_X0 rfl q335 rfl (xgr_spec ead6) dX0_show_25 ?_
        obtain ⟨ad7, ead7, hs⟩ := hs
        refine x_get (v := .ref ad7) X hK hI 4 6 rfl in_X4 rfl q272 rfl (xgr_spec ead7) dX0_show_28 ?_
        refine lv_iload_n hx hb dX0_show_31 rfl (lv_at hl 3 rfl) ?_
        obtain ⟨ad8, ead8, hs⟩ := hs
        refine x_aald X hK hI 7 rfl rfl ead8 dX0_show_32 ?_
        obtain ⟨C9, eC9, hs⟩ := hs
        refine x_put X hK hI 5 0 rfl in_X5 tyX5 tyX5_ok nmX5 rfl q324 rfl rfl rfl rfl eC9 dX0_show_33 (fun H locs hI => ?_)
        refine lv_iconst (v := 1) hx hb dX0_show_36 (by decide) ?_
        exact vx_ret (x_reti X hK hI hs (Nat.le_of_ble_eq_true rfl) (Nat.le_of_ble_eq_true rfl) dX0_show_37)
    · replace hs := ifp c15 hs
      refine lv_aload_n hx hb dX0_show_11 rfl (lv_at hl 0 rfl) ?_
      refine lv_null hx hb dX0_show_12 ?_
      obtain ⟨C15, eC15, hs⟩ := hs
      refine x_put X hK hI 5 0 rfl in_X5 tyX5 tyX5_ok nmX5 rfl q324 rfl rfl rfl rfl eC15 dX0_show_13 (fun H locs hI => ?_)
      refine lv_iconst (v := 0) hx hb dX0_show_16 (by decide) ?_
      exact vx_ret (x_reti X hK hI hs (Nat.le_of_ble_eq_true rfl) (Nat.le_of_ble_eq_true rfl) dX0_show_17)
def x_X0_holds (a0 : Nat) (a1 : Int32) (C : XH) (K : Int32 → XH → Prop) : Prop := (if a1 < 0 then K (-1) C else (if 8 ≤ a1 then K (-1) C else obd (xgr C (xis 0) a0 0) (fun ad1 => obd (xar C 4 ad1 a1) (fun ad2 => obd (xgo C (xis 5) ad2 0) (fun o3 => xopt o3 (K (-1) C) (fun ad4 => obd (xgr C (xis 0) a0 0) (fun ad5 => obd (xar C 4 ad5 a1) (fun ad6 => obd (xgo C (xis 5) ad6 0) (fun o7 => xinst C o7 (fun v8 => (if v8 = 0 then obd o7 (fun ad9 => (obd (xcl C ad9) (fun ci => xisR ci = true) ∧ vd_X8_sort ad9 C (fun r12 C11 => K (100 + r12) C11))) else obd o7 (fun ad13 => (obd (xcl C ad13) (fun ci => xisH ci = true) ∧ obd (xgi C xisH ad13 0) (fun v15 => K v15 C))))))))))))))
theorem iX0_holds : xInf yX0_holds cX0_holds 3 (some .int) 1 := ⟨q661, by decide +kernel⟩
set_option maxHeartbeats 4000000 in
theorem xet_X0_holds (l : Launch) (a0 : Nat) (a1 : Int32) (C : XH) (K : Int32 → XH → Prop) (hs : x_X0_holds a0 a1 C K) : xMeti l yX0_holds (ws_ yX0_holds cX0_holds 3 (some .int)) 1 20 0 0 C [.ref a0, .int a1] K := by
  intro D dT adK adV sz
  refine xEnter (own := RX0) (Qc := xQi D dT K) (by decide) rfl (by rfl) ?_
  intro p e s m args below meth c A ls X hnm hK hA hG hI hl
  have hx := X.1
  have hb := X.2.1
  have hts := X.2.2.2.2.1
  have hown := X.2.2.2.2.2.1
  have hl : lv_has ls 3 [(0, .ref a0), (1, .int a1)] := hl
  unfold x_X0_holds at hs
  refine lv_iload_n hx hb dX0_holds_0 rfl (lv_at hl 1 rfl) ?_
  refine lv_if_lt (tgt := 22) hx hb dX0_holds_1 (by decide) (fun c17 => ?_) (fun c17 => ?_)
  · replace hs := ifp c17 hs
    refine lv_iconst (v := (-1)) hx hb dX0_holds_22 (by decide) ?_
    exact x_reti X hK hI hs (Nat.le_of_ble_eq_true rfl) (Nat.le_of_ble_eq_true rfl) dX0_holds_23
  · replace hs := ifn c17 hs
    refine lv_iload_n hx hb dX0_holds_4 rfl (lv_at hl 1 rfl) ?_
    refine lv_bipush (v := 8) hx hb dX0_holds_5 (by decide) ?_
    refine lv_icmp_ge (tgt := 22) hx hb dX0_holds_7 (by decide) (fun c16 => ?_) (fun c16 => ?_)
    · replace hs := ifp c16 hs
      refine lv_iconst (v := (-1)) hx hb dX0_holds_22 (by decide) ?_
      exact x_reti X hK hI hs (Nat.le_of_ble_eq_true rfl) (Nat.le_of_ble_eq_true rfl) dX0_holds_23
    · replace hs := ifn c16 hs
      refine lv_aload_n hx hb dX0_holds_10 rfl (lv_at hl 0 rfl) ?_
      obtain ⟨ad1, ead1, hs⟩ := hs
      refine x_get (v := .ref ad1) X hK hI 0 0 rfl in_X0 rfl q328 rfl (xgr_spec ead1) dX0_holds_11 ?_
      refine lv_iload_n hx hb dX0_holds_14 rfl (lv_at hl 1 rfl) ?_
      obtain ⟨ad2, ead2, hs⟩ := hs
      refine x_aald X hK hI 4 rfl rfl ead2 dX0_holds_15 ?_
      obtain ⟨o3, eo3, hs⟩ := hs
      refine x_get (v := va_rf o3) X hK hI 5 0 rfl in_X5 rfl q324 rfl (xgo_spec eo3) dX0_holds_16 ?_
      obtain ⟨nad4, rad4⟩ := hs
      have hlad4 := hl
      rcases o3 with _ | ad4
      · have hs := nad4 rfl
        have hl := hlad4
        refine lv_ifnonnullN hx hb dX0_holds_19 ?_
        refine lv_iconst (v := (-1)) hx hb dX0_holds_22 (by decide) ?_
        exact x_reti X hK hI hs (Nat.le_of_ble_eq_true rfl) (Nat.le_of_ble_eq_true rfl) dX0_holds_23
      · have hs := rad4 ad4 rfl
        have hl := hlad4
        refine lv_ifnonnull (tgt := 24) hx hb dX0_holds_19 (by decide) ?_
        refine lv_aload_n hx hb dX0_holds_24 rfl (lv_at hl 0 rfl) ?_
        obtain ⟨ad5, ead5, hs⟩ := hs
        refine x_get (v := .ref ad5) X hK hI 0 0 rfl in_X0 rfl q328 rfl (xgr_spec ead5) dX0_holds_25 ?_
        refine lv_iload_n hx hb dX0_holds_28 rfl (lv_at hl 1 rfl) ?_
        obtain ⟨ad6, ead6, hs⟩ := hs
        refine x_aald X hK hI 4 rfl rfl ead6 dX0_holds_29 ?_
        obtain ⟨o7, eo7, hs⟩ := hs
        refine x_get (v := va_rf o7) X hK hI 5 0 rfl in_X5 rfl q324 rfl (xgo_spec eo7) dX0_holds_30 ?_
        refine x_astoreo_n (lv' := [(2, va_rf o7), (0, .ref a0), (1, .int a1)]) hx hb dX0_holds_33 rfl hl (by decide) rfl (fun ls hl => ?_)
        refine x_aloado_n hx hb dX0_holds_34 rfl (lv_at hl 0 rfl) ?_
        refine x_inst X hK hG hI q662 hs dX0_holds_35 (fun v8 bv8 hs9 => ?_)
        replace hs := hs9
        refine lv_if_eq (tgt := 51) hx hb dX0_holds_38 (by decide) (fun c15 => ?_) (fun c15 => ?_)
        · replace hs := ifp c15 hs
          refine lv_bipush (v := 100) hx hb dX0_holds_51 (by decide) ?_
          refine x_aloado_n hx hb dX0_holds_53 rfl (lv_at hl 0 rfl) ?_
          obtain ⟨ad9, ead9, hzad9⟩ := hs
          have hlad9 := hl
          cases ead9
          have hs := hzad9
          have hl := hlad9
          obtain ⟨z9, hs⟩ := hs
          refine x_castR X hK hG hI q663 z9 dX0_holds_54 ?_
          refine x_goi hA hI (vdc_X8_sort (rest := [.int 100]) X hK hA hG hI ad9 _ hs q593 ⟨(Nat.le_of_ble_eq_true rfl), (Nat.le_of_ble_eq_true rfl)⟩ hl.1 (Nat.le_of_ble_eq_true rfl) dX0_holds_57 ⟨(Nat.le_of_ble_eq_true rfl), (Nat.le_of_ble_eq_true rfl)⟩) (fun r12 C11 H locs hs9 hI => ?_)
          replace hs := hs9
          refine lv_iadd hx hb dX0_holds_60 ?_
          exact x_reti X hK hI hs (Nat.le_of_ble_eq_true rfl) (Nat.le_of_ble_eq_true rfl) dX0_holds_61
        · replace hs := ifn c15 hs
          refine x_aloado_n hx hb dX0_holds_41 rfl (lv_at hl 0 rfl) ?_
          obtain ⟨ad13, ead13, hzad13⟩ := hs
          have hlad13 := hl
          cases ead13
          have hs := hzad13
          have hl := hlad13
          obtain ⟨z13, hs⟩ := hs
          refine x_castH X hK hG hI q662 z13 dX0_holds_42 ?_
          obtain ⟨v15, ev15, hs⟩ := hs
          refine x_getH (v := .int v15) X hK hI 0 (by decide) q803 (fun x hx => hx) (xgi_spec ev15) dX0_holds_45 ?_
          refine lv_goto (tgt := 61) hx hb dX0_holds_48 (by decide) ?_
          exact x_reti X hK hI hs (Nat.le_of_ble_eq_true rfl) (Nat.le_of_ble_eq_true rfl) dX0_holds_61
def x_X13_puff (a0 : Nat) (C : XH) (K : Int32 → XH → Prop) : Prop := K 2 C
theorem iX13_puff : xInf yX13_puff cX13_puff 1 (some .int) 0 := ⟨q687, by decide +kernel⟩
set_option maxHeartbeats 4000000 in
theorem xet_X13_puff (l : Launch) (a0 : Nat) (C : XH) (K : Int32 → XH → Prop) (hs : x_X13_puff a0 C K) : xMeti l yX13_puff (ws_ yX13_puff cX13_puff 1 (some .int)) 0 0 0 0 C [.ref a0] K := by
  intro D dT adK adV sz
  refine xEnter (own := RX13) (Qc := xQi D dT K) (by decide) rfl (by rfl) ?_
  intro p e s m args below meth c A ls X hnm hK hA hG hI hl
  have hx := X.1
  have hb := X.2.1
  have hts := X.2.2.2.2.1
  have hown := X.2.2.2.2.2.1
  have hl : lv_has ls 1 [(0, .ref a0)] := hl
  unfold x_X13_puff at hs
  refine lv_iconst (v := 2) hx hb dX13_puff_0 (by decide) ?_
  exact x_reti X hK hI hs (Nat.le_of_ble_eq_true rfl) (Nat.le_of_ble_eq_true rfl) dX13_puff_1
def x_X14_puff (a0 : Nat) (C : XH) (K : Int32 → XH → Prop) : Prop := obd (xcl C a0) (fun ch2 => xisH ch2 = true ∧ x_X13_puff a0 C (fun r2 C1 => K (r2 - 1) C1))
theorem iX14_puff : xInf yX14_puff cX14_puff 1 (some .int) 0 := ⟨q683, by decide +kernel⟩
set_option maxHeartbeats 4000000 in
theorem xet_X14_puff (l : Launch) (a0 : Nat) (C : XH) (K : Int32 → XH → Prop) (hs : x_X14_puff a0 C K) : xMeti l yX14_puff (ws_ yX14_puff cX14_puff 1 (some .int)) 1 20 0 0 C [.ref a0] K := by
  intro D dT adK adV sz
  refine xEnter (own := RX14) (Qc := xQi D dT K) (by decide) rfl (by rfl) ?_
  intro p e s m args below meth c A ls X hnm hK hA hG hI hl
  have hx := X.1
  have hb := X.2.1
  have hts := X.2.2.2.2.1
  have hown := X.2.2.2.2.2.1
  have hl : lv_has ls 1 [(0, .ref a0)] := hl
  unfold x_X14_puff at hs
  refine lv_aload_n hx hb dX14_puff_0 rfl (lv_at hl 0 rfl) ?_
  obtain ⟨ch2, h2, gh2, hs⟩ := hs
  obtain ⟨fh2, h2⟩ := xcl_spec h2
  obtain ⟨ah2, gh2⟩ := x_aclH gh2
  refine x_goi hA hI (x_runSU (As := []) (rest := []) X hK hA hG hI h2 gh2 (xet_X13_puff l a0 _ _ hs) iX13_puff (by decide) q684 q2033 q685 q686 q117 ⟨(Nat.le_of_ble_eq_true rfl), (Nat.le_of_ble_eq_true rfl)⟩ rfl hl.1 rfl (Nat.le_of_ble_eq_true rfl) dX14_puff_1 ⟨(Nat.le_of_ble_eq_true rfl), (Nat.le_of_ble_eq_true rfl)⟩) (fun r2 C1 H locs hs9 hI => ?_)
  replace hs := hs9
  refine lv_iconst (v := 1) hx hb dX14_puff_4 (by decide) ?_
  refine lv_isub hx hb dX14_puff_5 ?_
  exact x_reti X hK hI hs (Nat.le_of_ble_eq_true rfl) (Nat.le_of_ble_eq_true rfl) dX14_puff_6
def x_X16_puff (a0 : Nat) (C : XH) (K : Int32 → XH → Prop) : Prop := obd (xcl C a0) (fun ch2 => xisH ch2 = true ∧ x_X14_puff a0 C (fun r2 C1 => K (r2 - 1) C1))
theorem iX16_puff : xInf yX16_puff cX16_puff 1 (some .int) 0 := ⟨q680, by decide +kernel⟩
set_option maxHeartbeats 4000000 in
theorem xet_X16_puff (l : Launch) (a0 : Nat) (C : XH) (K : Int32 → XH → Prop) (hs : x_X16_puff a0 C K) : xMeti l yX16_puff (ws_ yX16_puff cX16_puff 1 (some .int)) 2 40 0 0 C [.ref a0] K := by
  intro D dT adK adV sz
  refine xEnter (own := RX16) (Qc := xQi D dT K) (by decide) rfl (by rfl) ?_
  intro p e s m args below meth c A ls X hnm hK hA hG hI hl
  have hx := X.1
  have hb := X.2.1
  have hts := X.2.2.2.2.1
  have hown := X.2.2.2.2.2.1
  have hl : lv_has ls 1 [(0, .ref a0)] := hl
  unfold x_X16_puff at hs
  refine lv_aload_n hx hb dX16_puff_0 rfl (lv_at hl 0 rfl) ?_
  obtain ⟨ch2, h2, gh2, hs⟩ := hs
  obtain ⟨fh2, h2⟩ := xcl_spec h2
  obtain ⟨ah2, gh2⟩ := x_aclH gh2
  refine x_goi hA hI (x_runSU (As := []) (rest := []) X hK hA hG hI h2 gh2 (xet_X14_puff l a0 _ _ hs) iX14_puff (by decide) q681 q677 q682 q675 q118 ⟨(Nat.le_of_ble_eq_true rfl), (Nat.le_of_ble_eq_true rfl)⟩ rfl hl.1 rfl (Nat.le_of_ble_eq_true rfl) dX16_puff_1 ⟨(Nat.le_of_ble_eq_true rfl), (Nat.le_of_ble_eq_true rfl)⟩) (fun r2 C1 H locs hs9 hI => ?_)
  replace hs := hs9
  refine lv_iconst (v := 1) hx hb dX16_puff_4 (by decide) ?_
  refine lv_isub hx hb dX16_puff_5 ?_
  exact x_reti X hK hI hs (Nat.le_of_ble_eq_true rfl) (Nat.le_of_ble_eq_true rfl) dX16_puff_6
def x_X4_isSack (a0 : Nat) (a1 : Int32) (C : XH) (K : Int32 → XH → Prop) : Prop := obd (xgi C (xis 4) a0 1) (fun v1 => x_X0_in ((a1 : Int32).toInt64) 0 (((v1 - 1) : Int32).toInt64) C (fun r3 C2 => K r3 C2))
theorem iX4_isSack : xInf yX4_isSack cX4_isSack 2 (some .boolean) 1 := ⟨q700, by decide +kernel⟩
set_option maxHeartbeats 4000000 in
theorem xet_X4_isSack (l : Launch) (a0 : Nat) (a1 : Int32) (C : XH) (K : Int32 → XH → Prop) (hs : x_X4_isSack a0 a1 C K) : xMetz l yX4_isSack (ws_ yX4_isSack cX4_isSack 2 (some .boolean)) 1 25 0 0 C [.ref a0, .int a1] K := by
  intro D dT adK adV sz
  refine xEnter (own := RX4) (Qc := xQz D dT K) (by decide) rfl (by rfl) ?_
  intro p e s m args below meth c A ls X hnm hK hA hG hI hl
  have hx := X.1
  have hb := X.2.1
  have hts := X.2.2.2.2.1
  have hown := X.2.2.2.2.2.1
  have hl : lv_has ls 2 [(0, .ref a0), (1, .int a1)] := hl
  unfold x_X4_isSack at hs
  refine lv_iload_n hx hb dX4_isSack_0 rfl (lv_at hl 1 rfl) ?_
  refine lv_i2l (v := ((a1 : Int32).toInt64)) hx hb dX4_isSack_1 rfl ?_
  refine lv_lconst (v := 0) hx hb dX4_isSack_2 (by decide) ?_
  refine lv_aload_n hx hb dX4_isSack_3 rfl (lv_at hl 0 rfl) ?_
  obtain ⟨v1, ev1, hs⟩ := hs
  refine x_get (v := .int v1) X hK hI 4 1 rfl in_X4 rfl q254 rfl (xgi_spec ev1) dX4_isSack_4 ?_
  refine lv_iconst (v := 1) hx hb dX4_isSack_7 (by decide) ?_
  refine lv_isub hx hb dX4_isSack_8 ?_
  refine lv_i2l (v := (((v1 - 1) : Int32).toInt64)) hx hb dX4_isSack_9 rfl ?_
  refine x_goz hA hI (x_runS (As := [.long ((a1 : Int32).toInt64), .long 0, .long (((v1 - 1) : Int32).toInt64)]) (rest := []) X hK hA hG hI (xet_X0_in l ((a1 : Int32).toInt64) 0 (((v1 - 1) : Int32).toInt64) _ _ hs) iX0_in q657 q474 q94 ⟨(Nat.le_of_ble_eq_true rfl), (Nat.le_of_ble_eq_true rfl)⟩ rfl hl.1 rfl (Nat.le_of_ble_eq_true rfl) dX4_isSack_10 ⟨(Nat.le_of_ble_eq_true rfl), (Nat.le_of_ble_eq_true rfl)⟩) (fun r3 C2 H locs br3 hs9 hI => ?_)
  replace hs := hs9
  exact x_retz X hK hI br3 hs (Nat.le_of_ble_eq_true rfl) (Nat.le_of_ble_eq_true rfl) dX4_isSack_13
def x_X4_holesIn (a0 : Nat) (a1 : Int32) (C : XH) (K : Int32 → XH → Prop) : Prop := (xcl C a0 = some 4 ∧ x_X4_isSack a0 a1 C (fun r2 C1 => (if r2 = 0 then K 0 C1 else obd (xgr C1 (xis 4) a0 12) (fun ad4 => obd (xai C1 0 ad4 a1) (fun v5 => K v5 C1)))))
theorem iX4_holesIn : xInf yX4_holesIn cX4_holesIn 2 (some .int) 1 := ⟨q752, by decide +kernel⟩
set_option maxHeartbeats 4000000 in
theorem xet_X4_holesIn (l : Launch) (a0 : Nat) (a1 : Int32) (C : XH) (K : Int32 → XH → Prop) (hs : x_X4_holesIn a0 a1 C K) : xMeti l yX4_holesIn (ws_ yX4_holesIn cX4_holesIn 2 (some .int)) 2 46 0 0 C [.ref a0, .int a1] K := by
  intro D dT adK adV sz
  refine xEnter (own := RX4) (Qc := xQi D dT K) (by decide) rfl (by rfl) ?_
  intro p e s m args below meth c A ls X hnm hK hA hG hI hl
  have hx := X.1
  have hb := X.2.1
  have hts := X.2.2.2.2.1
  have hown := X.2.2.2.2.2.1
  have hl : lv_has ls 2 [(0, .ref a0), (1, .int a1)] := hl
  unfold x_X4_holesIn at hs
  refine lv_aload_n hx hb dX4_holesIn_0 rfl (lv_at hl 0 rfl) ?_
  refine lv_iload_n hx hb dX4_holesIn_1 rfl (lv_at hl 1 rfl) ?_
  obtain ⟨h2, hs⟩ := hs
  obtain ⟨fh2, h2⟩ := xcl_spec h2
  refine x_goz hA hI (x_runV (As := [.int a1]) (rest := []) X hK hA hG hI h2 (q := (RX4, TX4, 13)) rfl rfl (xet_X4_isSack l a0 a1 _ _ hs) iX4_isSack q697 q698 q699 q98 ⟨(Nat.le_of_ble_eq_true rfl), (Nat.le_of_ble_eq_true rfl)⟩ rfl hl.1 rfl (Nat.le_of_ble_eq_true rfl) dX4_holesIn_2 ⟨(Nat.le_of_ble_eq_true rfl), (Nat.le_of_ble_eq_true rfl)⟩) (fun r2 C1 H locs br2 hs9 hI => ?_)
  replace hs := hs9
  refine lv_if_eq (tgt := 17) hx hb dX4_holesIn_5 (by decide) (fun c5 => ?_) (fun c5 => ?_)
  · replace hs := ifp c5 hs
    refine lv_iconst (v := 0) hx hb dX4_holesIn_17 (by decide) ?_
    exact x_reti X hK hI hs (Nat.le_of_ble_eq_true rfl) (Nat.le_of_ble_eq_true rfl) dX4_holesIn_18
  · replace hs := ifn c5 hs
    refine lv_aload_n hx hb dX4_holesIn_8 rfl (lv_at hl 0 rfl) ?_
    obtain ⟨ad4, ead4, hs⟩ := hs
    refine x_get (v := .ref ad4) X hK hI 4 12 rfl in_X4 rfl q289 rfl (xgr_spec ead4) dX4_holesIn_9 ?_
    refine lv_iload_n hx hb dX4_holesIn_12 rfl (lv_at hl 1 rfl) ?_
    obtain ⟨v5, ev5, hs⟩ := hs
    refine x_iald X hK hI ev5 dX4_holesIn_13 ?_
    refine lv_goto (tgt := 18) hx hb dX4_holesIn_14 (by decide) ?_
    exact x_reti X hK hI hs (Nat.le_of_ble_eq_true rfl) (Nat.le_of_ble_eq_true rfl) dX4_holesIn_18
def x_X4_slackIn (a0 : Nat) (a1 : Int32) (a2 : Int32) (C : XH) (K : Int32 → XH → Prop) : Prop := (xcl C a0 = some 4 ∧ x_X4_isSack a0 a2 C (fun r2 C1 => (if r2 = 0 then K 0 C1 else obd (xgr C1 (xis 4) a0 11) (fun ad4 => obd (xai C1 0 ad4 a2) (fun v5 => K (iabs (v5 - a1)) C1)))))
theorem iX4_slackIn : xInf yX4_slackIn cX4_slackIn 3 (some .int) 2 := ⟨q696, by decide +kernel⟩
set_option maxHeartbeats 4000000 in
theorem xet_X4_slackIn (l : Launch) (a0 : Nat) (a1 : Int32) (a2 : Int32) (C : XH) (K : Int32 → XH → Prop) (hs : x_X4_slackIn a0 a1 a2 C K) : xMeti l yX4_slackIn (ws_ yX4_slackIn cX4_slackIn 3 (some .int)) 2 46 0 0 C [.ref a0, .int a1, .int a2] K := by
  intro D dT adK adV sz
  refine xEnter (own := RX4) (Qc := xQi D dT K) (by decide) rfl (by rfl) ?_
  intro p e s m args below meth c A ls X hnm hK hA hG hI hl
  have hx := X.1
  have hb := X.2.1
  have hts := X.2.2.2.2.1
  have hown := X.2.2.2.2.2.1
  have hl : lv_has ls 3 [(0, .ref a0), (1, .int a1), (2, .int a2)] := hl
  unfold x_X4_slackIn at hs
  refine lv_aload_n hx hb dX4_slackIn_0 rfl (lv_at hl 0 rfl) ?_
  refine lv_iload_n hx hb dX4_slackIn_1 rfl (lv_at hl 2 rfl) ?_
  obtain ⟨h2, hs⟩ := hs
  obtain ⟨fh2, h2⟩ := xcl_spec h2
  refine x_goz hA hI (x_runV (As := [.int a2]) (rest := []) X hK hA hG hI h2 (q := (RX4, TX4, 13)) rfl rfl (xet_X4_isSack l a0 a2 _ _ hs) iX4_isSack q697 q698 q699 q98 ⟨(Nat.le_of_ble_eq_true rfl), (Nat.le_of_ble_eq_true rfl)⟩ rfl hl.1 rfl (Nat.le_of_ble_eq_true rfl) dX4_slackIn_2 ⟨(Nat.le_of_ble_eq_true rfl), (Nat.le_of_ble_eq_true rfl)⟩) (fun r2 C1 H locs br2 hs9 hI => ?_)
  replace hs := hs9
  refine lv_if_eq (tgt := 22) hx hb dX4_slackIn_5 (by decide) (fun c5 => ?_) (fun c5 => ?_)
  · replace hs := ifp c5 hs
    refine lv_iconst (v := 0) hx hb dX4_slackIn_22 (by decide) ?_
    exact x_reti X hK hI hs (Nat.le_of_ble_eq_true rfl) (Nat.le_of_ble_eq_true rfl) dX4_slackIn_23
  · replace hs := ifn c5 hs
    refine lv_aload_n hx hb dX4_slackIn_8 rfl (lv_at hl 0 rfl) ?_
    obtain ⟨ad4, ead4, hs⟩ := hs
    refine x_get (v := .ref ad4) X hK hI 4 11 rfl in_X4 rfl q287 rfl (xgr_spec ead4) dX4_slackIn_9 ?_
    refine lv_iload_n hx hb dX4_slackIn_12 rfl (lv_at hl 2 rfl) ?_
    obtain ⟨v5, ev5, hs⟩ := hs
    refine x_iald X hK hI ev5 dX4_slackIn_13 ?_
    refine lv_iload_n hx hb dX4_slackIn_14 rfl (lv_at hl 1 rfl) ?_
    refine lv_isub hx hb dX4_slackIn_15 ?_
    refine va_mabs (rest := []) hx hb (X.2.2.2.1.trans hl.1.symm) hown (hts _ q701) (hts _ q702) (hts _ q116) (hts _ q703) (Nat.le_of_ble_eq_true rfl) (Nat.le_of_ble_eq_true rfl) (Nat.le_of_ble_eq_true rfl) (Nat.le_of_ble_eq_true rfl) dX4_slackIn_16 ?_
    refine lv_goto (tgt := 23) hx hb dX4_slackIn_19 (by decide) ?_
    exact x_reti X hK hI hs (Nat.le_of_ble_eq_true rfl) (Nat.le_of_ble_eq_true rfl) dX4_slackIn_23
def x_X16_stride (a0 : Nat) (a1 : Int32) (a2 : Int32) (C : XH) (K : Int32 → XH → Prop) : Prop := K ((a1 + 1) / 2) C
theorem iX16_stride : xInf yX16_stride cX16_stride 3 (some .int) 2 := ⟨q710, by decide +kernel⟩
set_option maxHeartbeats 4000000 in
theorem xet_X16_stride (l : Launch) (a0 : Nat) (a1 : Int32) (a2 : Int32) (C : XH) (K : Int32 → XH → Prop) (hs : x_X16_stride a0 a1 a2 C K) : xMeti l yX16_stride (ws_ yX16_stride cX16_stride 3 (some .int)) 0 0 0 0 C [.ref a0, .int a1, .int a2] K := by
  intro D dT adK adV sz
  refine xEnter (own := RX16) (Qc := xQi D dT K) (by decide) rfl (by rfl) ?_
  intro p e s m args below meth c A ls X hnm hK hA hG hI hl
  have hx := X.1
  have hb := X.2.1
  have hts := X.2.2.2.2.1
  have hown := X.2.2.2.2.2.1
  have hl : lv_has ls 3 [(0, .ref a0), (1, .int a1), (2, .int a2)] := hl
  unfold x_X16_stride at hs
  refine lv_iload_n hx hb dX16_stride_0 rfl (lv_at hl 1 rfl) ?_
  refine lv_iconst (v := 1) hx hb dX16_stride_1 (by decide) ?_
  refine lv_iadd hx hb dX16_stride_2 ?_
  refine lv_iconst (v := 2) hx hb dX16_stride_3 (by decide) ?_
  refine lv_idiv hx hb dX16_stride_4 (by decide) ?_
  exact x_reti X hK hI hs (Nat.le_of_ble_eq_true rfl) (Nat.le_of_ble_eq_true rfl) dX16_stride_5
def x_X13_stride (a0 : Nat) (a1 : Int32) (a2 : Int32) (C : XH) (K : Int32 → XH → Prop) : Prop := K a1 C
theorem iX13_stride : xInf yX13_stride cX13_stride 3 (some .int) 2 := ⟨q715, by decide +kernel⟩
set_option maxHeartbeats 4000000 in
theorem xet_X13_stride (l : Launch) (a0 : Nat) (a1 : Int32) (a2 : Int32) (C : XH) (K : Int32 → XH → Prop) (hs : x_X13_stride a0 a1 a2 C K) : xMeti l yX13_stride (ws_ yX13_stride cX13_stride 3 (some .int)) 0 0 0 0 C [.ref a0, .int a1, .int a2] K := by
  intro D dT adK adV sz
  refine xEnter (own := RX13) (Qc := xQi D dT K) (by decide) rfl (by rfl) ?_
  intro p e s m args below meth c A ls X hnm hK hA hG hI hl
  have hx := X.1
  have hb := X.2.1
  have hts := X.2.2.2.2.1
  have hown := X.2.2.2.2.2.1
  have hl : lv_has ls 3 [(0, .ref a0), (1, .int a1), (2, .int a2)] := hl
  unfold x_X13_stride at hs
  refine lv_iload_n hx hb dX13_stride_0 rfl (lv_at hl 1 rfl) ?_
  exact x_reti X hK hI hs (Nat.le_of_ble_eq_true rfl) (Nat.le_of_ble_eq_true rfl) dX13_stride_1
def x_X14_stride (a0 : Nat) (a1 : Int32) (a2 : Int32) (C : XH) (K : Int32 → XH → Prop) : Prop := obd (xcl C a0) (fun ch2 => xisH ch2 = true ∧ x_X13_stride a0 a1 a2 C (fun r2 C1 => K (imax 1 (r2 - 1)) C1))
theorem iX14_stride : xInf yX14_stride cX14_stride 3 (some .int) 2 := ⟨q713, by decide +kernel⟩
set_option maxHeartbeats 4000000 in
theorem xet_X14_stride (l : Launch) (a0 : Nat) (a1 : Int32) (a2 : Int32) (C : XH) (K : Int32 → XH → Prop) (hs : x_X14_stride a0 a1 a2 C K) : xMeti l yX14_stride (ws_ yX14_stride cX14_stride 3 (some .int)) 1 24 0 0 C [.ref a0, .int a1, .int a2] K := by
  intro D dT adK adV sz
  refine xEnter (own := RX14) (Qc := xQi D dT K) (by decide) rfl (by rfl) ?_
  intro p e s m args below meth c A ls X hnm hK hA hG hI hl
  have hx := X.1
  have hb := X.2.1
  have hts := X.2.2.2.2.1
  have hown := X.2.2.2.2.2.1
  have hl : lv_has ls 3 [(0, .ref a0), (1, .int a1), (2, .int a2)] := hl
  unfold x_X14_stride at hs
  refine lv_iconst (v := 1) hx hb dX14_stride_0 (by decide) ?_
  refine lv_aload_n hx hb dX14_stride_1 rfl (lv_at hl 0 rfl) ?_
  refine lv_iload_n hx hb dX14_stride_2 rfl (lv_at hl 1 rfl) ?_
  refine lv_iload_n hx hb dX14_stride_3 rfl (lv_at hl 2 rfl) ?_
  obtain ⟨ch2, h2, gh2, hs⟩ := hs
  obtain ⟨fh2, h2⟩ := xcl_spec h2
  obtain ⟨ah2, gh2⟩ := x_aclH gh2
  refine x_goi hA hI (x_runSU (As := [.int a1, .int a2]) (rest := [.int 1]) X hK hA hG hI h2 gh2 (xet_X13_stride l a0 a1 a2 _ _ hs) iX13_stride (by decide) q714 q707 q685 q705 q117 ⟨(Nat.le_of_ble_eq_true rfl), (Nat.le_of_ble_eq_true rfl)⟩ rfl hl.1 rfl (Nat.le_of_ble_eq_true rfl) dX14_stride_4 ⟨(Nat.le_of_ble_eq_true rfl), (Nat.le_of_ble_eq_true rfl)⟩) (fun r2 C1 H locs hs9 hI => ?_)
  replace hs := hs9
  refine lv_iconst (v := 1) hx hb dX14_stride_7 (by decide) ?_
  refine lv_isub hx hb dX14_stride_8 ?_
  refine va_mmax (rest := []) hx hb (X.2.2.2.1.trans hl.1.symm) hown (hts _ q716) (hts _ q717) (hts _ q116) (hts _ q718) (Nat.le_of_ble_eq_true rfl) (Nat.le_of_ble_eq_true rfl) (Nat.le_of_ble_eq_true rfl) (Nat.le_of_ble_eq_true rfl) dX14_stride_9 ?_
  exact x_reti X hK hI hs (Nat.le_of_ble_eq_true rfl) (Nat.le_of_ble_eq_true rfl) dX14_stride_12
def x_X15_stride (a0 : Nat) (a1 : Int32) (a2 : Int32) (C : XH) (K : Int32 → XH → Prop) : Prop := obd (xcl C a0) (fun ch2 => xisH ch2 = true ∧ x_X13_stride a0 a1 a2 C (fun r2 C1 => K (r2 + 2) C1))
theorem iX15_stride : xInf yX15_stride cX15_stride 3 (some .int) 2 := ⟨q721, by decide +kernel⟩
set_option maxHeartbeats 4000000 in
theorem xet_X15_stride (l : Launch) (a0 : Nat) (a1 : Int32) (a2 : Int32) (C : XH) (K : Int32 → XH → Prop) (hs : x_X15_stride a0 a1 a2 C K) : xMeti l yX15_stride (ws_ yX15_stride cX15_stride 3 (some .int)) 1 22 0 0 C [.ref a0, .int a1, .int a2] K := by
  intro D dT adK adV sz
  refine xEnter (own := RX15) (Qc := xQi D dT K) (by decide) rfl (by rfl) ?_
  intro p e s m args below meth c A ls X hnm hK hA hG hI hl
  have hx := X.1
  have hb := X.2.1
  have hts := X.2.2.2.2.1
  have hown := X.2.2.2.2.2.1
  have hl : lv_has ls 3 [(0, .ref a0), (1, .int a1), (2, .int a2)] := hl
  unfold x_X15_stride at hs
  refine lv_aload_n hx hb dX15_stride_0 rfl (lv_at hl 0 rfl) ?_
  refine lv_iload_n hx hb dX15_stride_1 rfl (lv_at hl 1 rfl) ?_
  refine lv_iload_n hx hb dX15_stride_2 rfl (lv_at hl 2 rfl) ?_
  obtain ⟨ch2, h2, gh2, hs⟩ := hs
  obtain ⟨fh2, h2⟩ := xcl_spec h2
  obtain ⟨ah2, gh2⟩ := x_aclH gh2
  refine x_goi hA hI (x_runSU (As := [.int a1, .int a2]) (rest := []) X hK hA hG hI h2 gh2 (xet_X13_stride l a0 a1 a2 _ _ hs) iX13_stride (by decide) q722 q707 q723 q705 q117 ⟨(Nat.le_of_ble_eq_true rfl), (Nat.le_of_ble_eq_true rfl)⟩ rfl hl.1 rfl (Nat.le_of_ble_eq_true rfl) dX15_stride_3 ⟨(Nat.le_of_ble_eq_true rfl), (Nat.le_of_ble_eq_true rfl)⟩) (fun r2 C1 H locs hs9 hI => ?_)
  replace hs := hs9
  refine lv_iconst (v := 2) hx hb dX15_stride_6 (by decide) ?_
  refine lv_iadd hx hb dX15_stride_7 ?_
  exact x_reti X hK hI hs (Nat.le_of_ble_eq_true rfl) (Nat.le_of_ble_eq_true rfl) dX15_stride_8
def x_X18_stride (a0 : Nat) (a1 : Int32) (a2 : Int32) (C : XH) (K : Int32 → XH → Prop) : Prop := obd (xgi C xisH a0 1) (fun v1 => K (a1 + v1) C)
theorem iX18_stride : xInf yX18_stride cX18_stride 3 (some .int) 2 := ⟨q726, by decide +kernel⟩
set_option maxHeartbeats 4000000 in
theorem xet_X18_stride (l : Launch) (a0 : Nat) (a1 : Int32) (a2 : Int32) (C : XH) (K : Int32 → XH → Prop) (hs : x_X18_stride a0 a1 a2 C K) : xMeti l yX18_stride (ws_ yX18_stride cX18_stride 3 (some .int)) 0 0 0 0 C [.ref a0, .int a1, .int a2] K := by
  intro D dT adK adV sz
  refine xEnter (own := RX18) (Qc := xQi D dT K) (by decide) rfl (by rfl) ?_
  intro p e s m args below meth c A ls X hnm hK hA hG hI hl
  have hx := X.1
  have hb := X.2.1
  have hts := X.2.2.2.2.1
  have hown := X.2.2.2.2.2.1
  have hl : lv_has ls 3 [(0, .ref a0), (1, .int a1), (2, .int a2)] := hl
  unfold x_X18_stride at hs
  refine lv_iload_n hx hb dX18_stride_0 rfl (lv_at hl 1 rfl) ?_
  refine lv_aload_n hx hb dX18_stride_1 rfl (lv_at hl 0 rfl) ?_
  obtain ⟨v1, ev1, hs⟩ := hs
  refine x_getH (v := .int v1) X hK hI 1 (by decide) q805 (x_same X q806) (xgi_spec ev1) dX18_stride_2 ?_
  refine lv_iadd hx hb dX18_stride_5 ?_
  exact x_reti X hK hI hs (Nat.le_of_ble_eq_true rfl) (Nat.le_of_ble_eq_true rfl) dX18_stride_6
def x_X17_free (a0 : Nat) (a1 : Int32) (C : XH) (K : Int32 → XH → Prop) : Prop := K (a1 + 1) C
theorem iX17_free : xInf yX17_free cX17_free 2 (some .int) 1 := ⟨q739, by decide +kernel⟩
set_option maxHeartbeats 4000000 in
theorem xet_X17_free (l : Launch) (a0 : Nat) (a1 : Int32) (C : XH) (K : Int32 → XH → Prop) (hs : x_X17_free a0 a1 C K) : xMeti l yX17_free (ws_ yX17_free cX17_free 2 (some .int)) 0 0 0 0 C [.ref a0, .int a1] K := by
  intro D dT adK adV sz
  refine xEnter (own := RX17) (Qc := xQi D dT K) (by decide) rfl (by rfl) ?_
  intro p e s m args below meth c A ls X hnm hK hA hG hI hl
  have hx := X.1
  have hb := X.2.1
  have hts := X.2.2.2.2.1
  have hown := X.2.2.2.2.2.1
  have hl : lv_has ls 2 [(0, .ref a0), (1, .int a1)] := hl
  unfold x_X17_free at hs
  refine lv_iload_n hx hb dX17_free_0 rfl (lv_at hl 1 rfl) ?_
  refine lv_iconst (v := 1) hx hb dX17_free_1 (by decide) ?_
  refine lv_iadd hx hb dX17_free_2 ?_
  exact x_reti X hK hI hs (Nat.le_of_ble_eq_true rfl) (Nat.le_of_ble_eq_true rfl) dX17_free_3
def x_X19_free (a0 : Nat) (a1 : Int32) (C : XH) (K : Int32 → XH → Prop) : Prop := obd (xcl C a0) (fun ch2 => xisH ch2 = true ∧ x_X17_free a0 a1 C (fun r2 C1 => K (r2 - 1) C1))
theorem iX19_free : xInf yX19_free cX19_free 2 (some .int) 1 := ⟨q736, by decide +kernel⟩
set_option maxHeartbeats 4000000 in
theorem xet_X19_free (l : Launch) (a0 : Nat) (a1 : Int32) (C : XH) (K : Int32 → XH → Prop) (hs : x_X19_free a0 a1 C K) : xMeti l yX19_free (ws_ yX19_free cX19_free 2 (some .int)) 1 21 0 0 C [.ref a0, .int a1] K := by
  intro D dT adK adV sz
  refine xEnter (own := RX19) (Qc := xQi D dT K) (by decide) rfl (by rfl) ?_
  intro p e s m args below meth c A ls X hnm hK hA hG hI hl
  have hx := X.1
  have hb := X.2.1
  have hts := X.2.2.2.2.1
  have hown := X.2.2.2.2.2.1
  have hl : lv_has ls 2 [(0, .ref a0), (1, .int a1)] := hl
  unfold x_X19_free at hs
  refine lv_aload_n hx hb dX19_free_0 rfl (lv_at hl 0 rfl) ?_
  refine lv_iload_n hx hb dX19_free_1 rfl (lv_at hl 1 rfl) ?_
  obtain ⟨ch2, h2, gh2, hs⟩ := hs
  obtain ⟨fh2, h2⟩ := xcl_spec h2
  obtain ⟨ah2, gh2⟩ := x_aclH gh2
  refine x_goi hA hI (x_runSU (As := [.int a1]) (rest := []) X hK hA hG hI h2 gh2 (xet_X17_free l a0 a1 _ _ hs) iX17_free (by decide) q737 q733 q738 q731 q121 ⟨(Nat.le_of_ble_eq_true rfl), (Nat.le_of_ble_eq_true rfl)⟩ rfl hl.1 rfl (Nat.le_of_ble_eq_true rfl) dX19_free_2 ⟨(Nat.le_of_ble_eq_true rfl), (Nat.le_of_ble_eq_true rfl)⟩) (fun r2 C1 H locs hs9 hI => ?_)
  replace hs := hs9
  refine lv_iconst (v := 1) hx hb dX19_free_5 (by decide) ?_
  refine lv_isub hx hb dX19_free_6 ?_
  exact x_reti X hK hI hs (Nat.le_of_ble_eq_true rfl) (Nat.le_of_ble_eq_true rfl) dX19_free_7
def vd_X17_free (b : Nat) (a1 : Int32) (C : XH) (K : Int32 → XH → Prop) : Prop := obd (xcl C b) (fun ci => if ci = 17 then x_X17_free b a1 C K else if ci = 19 then x_X19_free b a1 C K else False)
theorem vdc_X17_free {p : Program} {l : Launch} {e : Env} {R : Room} {s : State} {m : MethodId} {args : Array Value} {below : List Frame} {meth : Method} {c : Code} {H : Heap} {locs : List Loc} {cells slots : Nat} {own : String} {cc : ByteArray} {nL : Nat} {ret : Option FieldType} {pc : Nat} {ls : Array Slot} {rest : List Value} {D : va_G} {dT : Nat → ClassId} {adK adV : Nat → Nat} {A : Nat → Prop} {C : XH} {index : Nat} (X : xX p s m args meth c own cc nL ret) (hK : va_K D aCl (aT dT) s) (hA : ∀ q : Nat, s.heap.size ≤ q → A q) (hG : xG adK adV A s s.heap) (hI : xI D dT A s.heap C H locs) (b : Nat) (a1 : Int32) (K : Int32 → XH → Prop) (hs : vd_X17_free b a1 C K) (w1 : Cond.methodLink own index ⟨RX17, "free", "(I)I"⟩ ∈ lw_all) (hR : 1 + 1 ≤ R.frames ∧ 8 + (0 + 11) + 23 ≤ R.locals) (hsz : ls.size = nL) (hrm : (rest.map fun v => v.category).sum ≤ 8) (hdg : decode cc pc = .ok (.invokevirtual index, 3)) (hf : cells + 0 ≤ R.cells ∧ slots + 0 ≤ R.slots) : xCtx p l e R s m args below meth c H locs cells slots 0 0 D dT C pc ls ([.int a1] ++ .ref b :: rest) rest (fun D dT A => xQi D dT K A) (.ref b :: [.int a1]) := by
  obtain ⟨ci, hci, hs⟩ := hs
  obtain ⟨fs, hb⟩ := xcl_spec hci
  by_cases h17 : ci = 17
  · subst h17
    replace hs := ifp rfl hs
    exact x_runO (As := [.int a1]) X hK hA hG hI hb (q := (RX17, TX17, 2)) rfl (xet_X17_free l b a1 _ _ hs) iX17_free RX17 w1 q733 q731 q732 q731 q121 q739 (by decide +kernel) ⟨Nat.le_trans (Nat.le_of_ble_eq_true rfl) hR.1, Nat.le_trans (Nat.le_of_ble_eq_true rfl) hR.2⟩ rfl hsz rfl hrm hdg hf
  · replace hs := ifn h17 hs
    by_cases h19 : ci = 19
    · subst h19
      replace hs := ifp rfl hs
      exact x_runO (As := [.int a1]) X hK hA hG hI hb (q := (RX19, TX19, 2)) rfl (xet_X19_free l b a1 _ _ hs) iX19_free RX17 w1 q733 q731 q734 q735 q123 q739 (by decide +kernel) ⟨Nat.le_trans (Nat.le_of_ble_eq_true rfl) hR.1, Nat.le_trans (Nat.le_of_ble_eq_true rfl) hR.2⟩ rfl hsz rfl hrm hdg hf
    · replace hs := ifn h19 hs
      exact hs.elim
def x_X17_stride (a0 : Nat) (a1 : Int32) (a2 : Int32) (C : XH) (K : Int32 → XH → Prop) : Prop := vd_X17_free a0 a1 C (fun r2 C1 => K (imax 1 (r2 - a2)) C1)
theorem iX17_stride : xInf yX17_stride cX17_stride 3 (some .int) 2 := ⟨q729, by decide +kernel⟩
set_option maxHeartbeats 4000000 in
theorem xet_X17_stride (l : Launch) (a0 : Nat) (a1 : Int32) (a2 : Int32) (C : XH) (K : Int32 → XH → Prop) (hs : x_X17_stride a0 a1 a2 C K) : xMeti l yX17_stride (ws_ yX17_stride cX17_stride 3 (some .int)) 2 42 0 0 C [.ref a0, .int a1, .int a2] K := by
  intro D dT adK adV sz
  refine xEnter (own := RX17) (Qc := xQi D dT K) (by decide) rfl (by rfl) ?_
  intro p e s m args below meth c A ls X hnm hK hA hG hI hl
  have hx := X.1
  have hb := X.2.1
  have hts := X.2.2.2.2.1
  have hown := X.2.2.2.2.2.1
  have hl : lv_has ls 3 [(0, .ref a0), (1, .int a1), (2, .int a2)] := hl
  unfold x_X17_stride at hs
  refine lv_iconst (v := 1) hx hb dX17_stride_0 (by decide) ?_
  refine lv_aload_n hx hb dX17_stride_1 rfl (lv_at hl 0 rfl) ?_
  refine lv_iload_n hx hb dX17_stride_2 rfl (lv_at hl 1 rfl) ?_
  refine x_goi hA hI (vdc_X17_free (rest := [.int 1]) X hK hA hG hI a0 a1 _ hs q730 ⟨(Nat.le_of_ble_eq_true rfl), (Nat.le_of_ble_eq_true rfl)⟩ hl.1 (Nat.le_of_ble_eq_true rfl) dX17_stride_3 ⟨(Nat.le_of_ble_eq_true rfl), (Nat.le_of_ble_eq_true rfl)⟩) (fun r2 C1 H locs hs9 hI => ?_)
  replace hs := hs9
  refine lv_iload_n hx hb dX17_stride_6 rfl (lv_at hl 2 rfl) ?_
  refine lv_isub hx hb dX17_stride_7 ?_
  refine va_mmax (rest := []) hx hb (X.2.2.2.1.trans hl.1.symm) hown (hts _ q740) (hts _ q717) (hts _ q116) (hts _ q718) (Nat.le_of_ble_eq_true rfl) (Nat.le_of_ble_eq_true rfl) (Nat.le_of_ble_eq_true rfl) (Nat.le_of_ble_eq_true rfl) dX17_stride_8 ?_
  exact x_reti X hK hI hs (Nat.le_of_ble_eq_true rfl) (Nat.le_of_ble_eq_true rfl) dX17_stride_11
def vd_X13_stride (b : Nat) (a1 : Int32) (a2 : Int32) (C : XH) (K : Int32 → XH → Prop) : Prop := obd (xcl C b) (fun ci => if ci = 13 then x_X13_stride b a1 a2 C K else if ci = 14 then x_X14_stride b a1 a2 C K else if ci = 15 then x_X15_stride b a1 a2 C K else if ci = 16 then x_X16_stride b a1 a2 C K else if ci = 17 then x_X17_stride b a1 a2 C K else if ci = 18 then x_X18_stride b a1 a2 C K else if ci = 19 then x_X17_stride b a1 a2 C K else False)
theorem vdc_X13_stride {p : Program} {l : Launch} {e : Env} {R : Room} {s : State} {m : MethodId} {args : Array Value} {below : List Frame} {meth : Method} {c : Code} {H : Heap} {locs : List Loc} {cells slots : Nat} {own : String} {cc : ByteArray} {nL : Nat} {ret : Option FieldType} {pc : Nat} {ls : Array Slot} {rest : List Value} {D : va_G} {dT : Nat → ClassId} {adK adV : Nat → Nat} {A : Nat → Prop} {C : XH} {index : Nat} (X : xX p s m args meth c own cc nL ret) (hK : va_K D aCl (aT dT) s) (hA : ∀ q : Nat, s.heap.size ≤ q → A q) (hG : xG adK adV A s s.heap) (hI : xI D dT A s.heap C H locs) (b : Nat) (a1 : Int32) (a2 : Int32) (K : Int32 → XH → Prop) (hs : vd_X13_stride b a1 a2 C K) (w1 : Cond.methodLink own index ⟨RX13, "stride", "(II)I"⟩ ∈ lw_all) (hR : 2 + 1 ≤ R.frames ∧ 8 + (0 + 11) + 45 ≤ R.locals) (hsz : ls.size = nL) (hrm : (rest.map fun v => v.category).sum ≤ 8) (hdg : decode cc pc = .ok (.invokevirtual index, 3)) (hf : cells + 0 ≤ R.cells ∧ slots + 0 ≤ R.slots) : xCtx p l e R s m args below meth c H locs cells slots 0 0 D dT C pc ls ([.int a2, .int a1] ++ .ref b :: rest) rest (fun D dT A => xQi D dT K A) (.ref b :: [.int a1, .int a2]) := by
  obtain ⟨ci, hci, hs⟩ := hs
  obtain ⟨fs, hb⟩ := xcl_spec hci
  by_cases h13 : ci = 13
  · subst h13
    replace hs := ifp rfl hs
    exact x_runO (As := [.int a1, .int a2]) X hK hA hG hI hb (q := (RX13, TX13, 2)) rfl (xet_X13_stride l b a1 a2 _ _ hs) iX13_stride RX13 w1 q707 q705 q706 q705 q117 q715 (by decide +kernel) ⟨Nat.le_trans (Nat.le_of_ble_eq_true rfl) hR.1, Nat.le_trans (Nat.le_of_ble_eq_true rfl) hR.2⟩ rfl hsz rfl hrm hdg hf
  · replace hs := ifn h13 hs
    by_cases h14 : ci = 14
    · subst h14
      replace hs := ifp rfl hs
      exact x_runO (As := [.int a1, .int a2]) X hK hA hG hI hb (q := (RX14, TX14, 2)) rfl (xet_X14_stride l b a1 a2 _ _ hs) iX14_stride RX13 w1 q707 q705 q711 q712 q118 q715 (by decide +kernel) ⟨Nat.le_trans (Nat.le_of_ble_eq_true rfl) hR.1, Nat.le_trans (Nat.le_of_ble_eq_true rfl) hR.2⟩ rfl hsz rfl hrm hdg hf
    · replace hs := ifn h14 hs
      by_cases h15 : ci = 15
      · subst h15
        replace hs := ifp rfl hs
        exact x_runO (As := [.int a1, .int a2]) X hK hA hG hI hb (q := (RX15, TX15, 2)) rfl (xet_X15_stride l b a1 a2 _ _ hs) iX15_stride RX13 w1 q707 q705 q719 q720 q119 q715 (by decide +kernel) ⟨Nat.le_trans (Nat.le_of_ble_eq_true rfl) hR.1, Nat.le_trans (Nat.le_of_ble_eq_true rfl) hR.2⟩ rfl hsz rfl hrm hdg hf
      · replace hs := ifn h15 hs
        by_cases h16 : ci = 16
        · subst h16
          replace hs := ifp rfl hs
          exact x_runO (As := [.int a1, .int a2]) X hK hA hG hI hb (q := (RX16, TX16, 2)) rfl (xet_X16_stride l b a1 a2 _ _ hs) iX16_stride RX13 w1 q707 q705 q708 q709 q120 q715 (by decide +kernel) ⟨Nat.le_trans (Nat.le_of_ble_eq_true rfl) hR.1, Nat.le_trans (Nat.le_of_ble_eq_true rfl) hR.2⟩ rfl hsz rfl hrm hdg hf
        · replace hs := ifn h16 hs
          by_cases h17 : ci = 17
          · subst h17
            replace hs := ifp rfl hs
            exact x_runO (As := [.int a1, .int a2]) X hK hA hG hI hb (q := (RX17, TX17, 2)) rfl (xet_X17_stride l b a1 a2 _ _ hs) iX17_stride RX13 w1 q707 q705 q727 q728 q121 q715 (by decide +kernel) ⟨Nat.le_trans (Nat.le_of_ble_eq_true rfl) hR.1, Nat.le_trans (Nat.le_of_ble_eq_true rfl) hR.2⟩ rfl hsz rfl hrm hdg hf
          · replace hs := ifn h17 hs
            by_cases h18 : ci = 18
            · subst h18
              replace hs := ifp rfl hs
              exact x_runO (As := [.int a1, .int a2]) X hK hA hG hI hb (q := (RX18, TX18, 2)) rfl (xet_X18_stride l b a1 a2 _ _ hs) iX18_stride RX13 w1 q707 q705 q724 q725 q122 q715 (by decide +kernel) ⟨Nat.le_trans (Nat.le_of_ble_eq_true rfl) hR.1, Nat.le_trans (Nat.le_of_ble_eq_true rfl) hR.2⟩ rfl hsz rfl hrm hdg hf
            · replace hs := ifn h18 hs
              by_cases h19 : ci = 19
              · subst h19
                replace hs := ifp rfl hs
                exact x_runO (As := [.int a1, .int a2]) X hK hA hG hI hb (q := (RX19, TX19, 2)) rfl (xet_X17_stride l b a1 a2 _ _ hs) iX17_stride RX13 w1 q707 q705 q741 q728 q121 q715 (by decide +kernel) ⟨Nat.le_trans (Nat.le_of_ble_eq_true rfl) hR.1, Nat.le_trans (Nat.le_of_ble_eq_true rfl) hR.2⟩ rfl hsz rfl hrm hdg hf
              · replace hs := ifn h19 hs
                exact hs.elim
def x_X13_risk (a0 : Nat) (a1 : Int32) (a2 : Int32) (a3 : Int32) (C : XH) (K : Int32 → XH → Prop) : Prop := vd_X13_stride a0 a1 a2 C (fun r2 C1 => K (((5 * a2) + (3 * a3)) + r2) C1)
theorem iX13_risk : xInf yX13_risk cX13_risk 4 (some .int) 3 := ⟨q766, by decide +kernel⟩
set_option maxHeartbeats 4000000 in
theorem xet_X13_risk (l : Launch) (a0 : Nat) (a1 : Int32) (a2 : Int32) (a3 : Int32) (C : XH) (K : Int32 → XH → Prop) (hs : x_X13_risk a0 a1 a2 a3 C K) : xMeti l yX13_risk (ws_ yX13_risk cX13_risk 4 (some .int)) 3 64 0 0 C [.ref a0, .int a1, .int a2, .int a3] K := by
  intro D dT adK adV sz
  refine xEnter (own := RX13) (Qc := xQi D dT K) (by decide) rfl (by rfl) ?_
  intro p e s m args below meth c A ls X hnm hK hA hG hI hl
  have hx := X.1
  have hb := X.2.1
  have hts := X.2.2.2.2.1
  have hown := X.2.2.2.2.2.1
  have hl : lv_has ls 4 [(0, .ref a0), (1, .int a1), (2, .int a2), (3, .int a3)] := hl
  unfold x_X13_risk at hs
  refine lv_iconst (v := 5) hx hb dX13_risk_0 (by decide) ?_
  refine lv_iload_n hx hb dX13_risk_1 rfl (lv_at hl 2 rfl) ?_
  refine lv_imul hx hb dX13_risk_2 ?_
  refine lv_iconst (v := 3) hx hb dX13_risk_3 (by decide) ?_
  refine lv_iload_n hx hb dX13_risk_4 rfl (lv_at hl 3 rfl) ?_
  refine lv_imul hx hb dX13_risk_5 ?_
  refine lv_iadd hx hb dX13_risk_6 ?_
  refine lv_aload_n hx hb dX13_risk_7 rfl (lv_at hl 0 rfl) ?_
  refine lv_iload_n hx hb dX13_risk_8 rfl (lv_at hl 1 rfl) ?_
  refine lv_iload_n hx hb dX13_risk_9 rfl (lv_at hl 2 rfl) ?_
  refine x_goi hA hI (vdc_X13_stride (rest := [.int ((5 * a2) + (3 * a3))]) X hK hA hG hI a0 a1 a2 _ hs q767 ⟨(Nat.le_of_ble_eq_true rfl), (Nat.le_of_ble_eq_true rfl)⟩ hl.1 (Nat.le_of_ble_eq_true rfl) dX13_risk_10 ⟨(Nat.le_of_ble_eq_true rfl), (Nat.le_of_ble_eq_true rfl)⟩) (fun r2 C1 H locs hs9 hI => ?_)
  replace hs := hs9
  refine lv_iadd hx hb dX13_risk_13 ?_
  exact x_reti X hK hI hs (Nat.le_of_ble_eq_true rfl) (Nat.le_of_ble_eq_true rfl) dX13_risk_14
def x_X17_risk (a0 : Nat) (a1 : Int32) (a2 : Int32) (a3 : Int32) (C : XH) (K : Int32 → XH → Prop) : Prop := obd (xcl C a0) (fun ch2 => xisH ch2 = true ∧ x_X13_risk a0 a1 a2 a3 C (fun r2 C1 => K (r2 / 2) C1))
theorem iX17_risk : xInf yX17_risk cX17_risk 4 (some .int) 3 := ⟨q763, by decide +kernel⟩
set_option maxHeartbeats 4000000 in
theorem xet_X17_risk (l : Launch) (a0 : Nat) (a1 : Int32) (a2 : Int32) (a3 : Int32) (C : XH) (K : Int32 → XH → Prop) (hs : x_X17_risk a0 a1 a2 a3 C K) : xMeti l yX17_risk (ws_ yX17_risk cX17_risk 4 (some .int)) 4 87 0 0 C [.ref a0, .int a1, .int a2, .int a3] K := by
  intro D dT adK adV sz
  refine xEnter (own := RX17) (Qc := xQi D dT K) (by decide) rfl (by rfl) ?_
  intro p e s m args below meth c A ls X hnm hK hA hG hI hl
  have hx := X.1
  have hb := X.2.1
  have hts := X.2.2.2.2.1
  have hown := X.2.2.2.2.2.1
  have hl : lv_has ls 4 [(0, .ref a0), (1, .int a1), (2, .int a2), (3, .int a3)] := hl
  unfold x_X17_risk at hs
  refine lv_aload_n hx hb dX17_risk_0 rfl (lv_at hl 0 rfl) ?_
  refine lv_iload_n hx hb dX17_risk_1 rfl (lv_at hl 1 rfl) ?_
  refine lv_iload_n hx hb dX17_risk_2 rfl (lv_at hl 2 rfl) ?_
  refine lv_iload_n hx hb dX17_risk_3 rfl (lv_at hl 3 rfl) ?_
  obtain ⟨ch2, h2, gh2, hs⟩ := hs
  obtain ⟨fh2, h2⟩ := xcl_spec h2
  obtain ⟨ah2, gh2⟩ := x_aclH gh2
  refine x_goi hA hI (x_runSU (As := [.int a1, .int a2, .int a3]) (rest := []) X hK hA hG hI h2 gh2 (xet_X13_risk l a0 a1 a2 a3 _ _ hs) iX13_risk (by decide) q764 q756 q765 q754 q117 ⟨(Nat.le_of_ble_eq_true rfl), (Nat.le_of_ble_eq_true rfl)⟩ rfl hl.1 rfl (Nat.le_of_ble_eq_true rfl) dX17_risk_4 ⟨(Nat.le_of_ble_eq_true rfl), (Nat.le_of_ble_eq_true rfl)⟩) (fun r2 C1 H locs hs9 hI => ?_)
  replace hs := hs9
  refine lv_iconst (v := 2) hx hb dX17_risk_7 (by decide) ?_
  refine lv_idiv hx hb dX17_risk_8 (by decide) ?_
  exact x_reti X hK hI hs (Nat.le_of_ble_eq_true rfl) (Nat.le_of_ble_eq_true rfl) dX17_risk_9
def vd_X13_risk (b : Nat) (a1 : Int32) (a2 : Int32) (a3 : Int32) (C : XH) (K : Int32 → XH → Prop) : Prop := obd (xcl C b) (fun ci => if ci = 13 then x_X13_risk b a1 a2 a3 C K else if ci = 14 then x_X13_risk b a1 a2 a3 C K else if ci = 15 then x_X13_risk b a1 a2 a3 C K else if ci = 16 then x_X13_risk b a1 a2 a3 C K else if ci = 17 then x_X17_risk b a1 a2 a3 C K else if ci = 18 then x_X13_risk b a1 a2 a3 C K else if ci = 19 then x_X17_risk b a1 a2 a3 C K else False)
theorem vdc_X13_risk {p : Program} {l : Launch} {e : Env} {R : Room} {s : State} {m : MethodId} {args : Array Value} {below : List Frame} {meth : Method} {c : Code} {H : Heap} {locs : List Loc} {cells slots : Nat} {own : String} {cc : ByteArray} {nL : Nat} {ret : Option FieldType} {pc : Nat} {ls : Array Slot} {rest : List Value} {D : va_G} {dT : Nat → ClassId} {adK adV : Nat → Nat} {A : Nat → Prop} {C : XH} {index : Nat} (X : xX p s m args meth c own cc nL ret) (hK : va_K D aCl (aT dT) s) (hA : ∀ q : Nat, s.heap.size ≤ q → A q) (hG : xG adK adV A s s.heap) (hI : xI D dT A s.heap C H locs) (b : Nat) (a1 : Int32) (a2 : Int32) (a3 : Int32) (K : Int32 → XH → Prop) (hs : vd_X13_risk b a1 a2 a3 C K) (w1 : Cond.methodLink own index ⟨RX13, "risk", "(III)I"⟩ ∈ lw_all) (hR : 4 + 1 ≤ R.frames ∧ 8 + (0 + 11) + 91 ≤ R.locals) (hsz : ls.size = nL) (hrm : (rest.map fun v => v.category).sum ≤ 8) (hdg : decode cc pc = .ok (.invokevirtual index, 3)) (hf : cells + 0 ≤ R.cells ∧ slots + 0 ≤ R.slots) : xCtx p l e R s m args below meth c H locs cells slots 0 0 D dT C pc ls ([.int a3, .int a2, .int a1] ++ .ref b :: rest) rest (fun D dT A => xQi D dT K A) (.ref b :: [.int a1, .int a2, .int a3]) := by
  obtain ⟨ci, hci, hs⟩ := hs
  obtain ⟨fs, hb⟩ := xcl_spec hci
  by_cases h13 : ci = 13
  · subst h13
    replace hs := ifp rfl hs
    exact x_runO (As := [.int a1, .int a2, .int a3]) X hK hA hG hI hb (q := (RX13, TX13, 2)) rfl (xet_X13_risk l b a1 a2 a3 _ _ hs) iX13_risk RX13 w1 q756 q754 q755 q754 q117 q766 (by decide +kernel) ⟨Nat.le_trans (Nat.le_of_ble_eq_true rfl) hR.1, Nat.le_trans (Nat.le_of_ble_eq_true rfl) hR.2⟩ rfl hsz rfl hrm hdg hf
  · replace hs := ifn h13 hs
    by_cases h14 : ci = 14
    · subst h14
      replace hs := ifp rfl hs
      exact x_runO (As := [.int a1, .int a2, .int a3]) X hK hA hG hI hb (q := (RX14, TX14, 2)) rfl (xet_X13_risk l b a1 a2 a3 _ _ hs) iX13_risk RX13 w1 q756 q754 q758 q754 q117 q766 (by decide +kernel) ⟨Nat.le_trans (Nat.le_of_ble_eq_true rfl) hR.1, Nat.le_trans (Nat.le_of_ble_eq_true rfl) hR.2⟩ rfl hsz rfl hrm hdg hf
    · replace hs := ifn h14 hs
      by_cases h15 : ci = 15
      · subst h15
        replace hs := ifp rfl hs
        exact x_runO (As := [.int a1, .int a2, .int a3]) X hK hA hG hI hb (q := (RX15, TX15, 2)) rfl (xet_X13_risk l b a1 a2 a3 _ _ hs) iX13_risk RX13 w1 q756 q754 q759 q754 q117 q766 (by decide +kernel) ⟨Nat.le_trans (Nat.le_of_ble_eq_true rfl) hR.1, Nat.le_trans (Nat.le_of_ble_eq_true rfl) hR.2⟩ rfl hsz rfl hrm hdg hf
      · replace hs := ifn h15 hs
        by_cases h16 : ci = 16
        · subst h16
          replace hs := ifp rfl hs
          exact x_runO (As := [.int a1, .int a2, .int a3]) X hK hA hG hI hb (q := (RX16, TX16, 2)) rfl (xet_X13_risk l b a1 a2 a3 _ _ hs) iX13_risk RX13 w1 q756 q754 q757 q754 q117 q766 (by decide +kernel) ⟨Nat.le_trans (Nat.le_of_ble_eq_true rfl) hR.1, Nat.le_trans (Nat.le_of_ble_eq_true rfl) hR.2⟩ rfl hsz rfl hrm hdg hf
        · replace hs := ifn h16 hs
          by_cases h17 : ci = 17
          · subst h17
            replace hs := ifp rfl hs
            exact x_runO (As := [.int a1, .int a2, .int a3]) X hK hA hG hI hb (q := (RX17, TX17, 2)) rfl (xet_X17_risk l b a1 a2 a3 _ _ hs) iX17_risk RX13 w1 q756 q754 q761 q762 q121 q766 (by decide +kernel) ⟨Nat.le_trans (Nat.le_of_ble_eq_true rfl) hR.1, Nat.le_trans (Nat.le_of_ble_eq_true rfl) hR.2⟩ rfl hsz rfl hrm hdg hf
          · replace hs := ifn h17 hs
            by_cases h18 : ci = 18
            · subst h18
              replace hs := ifp rfl hs
              exact x_runO (As := [.int a1, .int a2, .int a3]) X hK hA hG hI hb (q := (RX18, TX18, 2)) rfl (xet_X13_risk l b a1 a2 a3 _ _ hs) iX13_risk RX13 w1 q756 q754 q760 q754 q117 q766 (by decide +kernel) ⟨Nat.le_trans (Nat.le_of_ble_eq_true rfl) hR.1, Nat.le_trans (Nat.le_of_ble_eq_true rfl) hR.2⟩ rfl hsz rfl hrm hdg hf
            · replace hs := ifn h18 hs
              by_cases h19 : ci = 19
              · subst h19
                replace hs := ifp rfl hs
                exact x_runO (As := [.int a1, .int a2, .int a3]) X hK hA hG hI hb (q := (RX19, TX19, 2)) rfl (xet_X17_risk l b a1 a2 a3 _ _ hs) iX17_risk RX13 w1 q756 q754 q768 q762 q121 q766 (by decide +kernel) ⟨Nat.le_trans (Nat.le_of_ble_eq_true rfl) hR.1, Nat.le_trans (Nat.le_of_ble_eq_true rfl) hR.2⟩ rfl hsz rfl hrm hdg hf
              · replace hs := ifn h19 hs
                exact hs.elim
def x_X4_riskOf (a0 : Nat) (a1 : Int32) (C : XH) (K : Int32 → XH → Prop) : Prop := obd (xgr C (xis 4) a0 6) (fun ad1 => obd (xar C 7 ad1 a1) (fun ad2 => obd (xgr C (xis 4) a0 7) (fun ad3 => obd (xai C 0 ad3 a1) (fun v4 => obd (xgr C (xis 4) a0 7) (fun ad5 => obd (xai C 0 ad5 a1) (fun v6 => obd (xgr C (xis 4) a0 8) (fun ad7 => obd (xai C 0 ad7 a1) (fun v8 => (xcl C a0 = some 4 ∧ x_X4_slackIn a0 v6 v8 C (fun r10 C9 => obd (xgr C9 (xis 4) a0 8) (fun ad12 => obd (xai C9 0 ad12 a1) (fun v13 => (xcl C9 a0 = some 4 ∧ x_X4_holesIn a0 v13 C9 (fun r15 C14 => vd_X13_risk ad2 v4 r10 r15 C14 (fun r18 C17 => K r18 C17)))))))))))))))
theorem iX4_riskOf : xInf yX4_riskOf cX4_riskOf 2 (some .int) 1 := ⟨q748, by decide +kernel⟩
set_option maxHeartbeats 4000000 in
theorem xet_X4_riskOf (l : Launch) (a0 : Nat) (a1 : Int32) (C : XH) (K : Int32 → XH → Prop) (hs : x_X4_riskOf a0 a1 C K) : xMeti l yX4_riskOf (ws_ yX4_riskOf cX4_riskOf 2 (some .int)) 5 110 0 0 C [.ref a0, .int a1] K := by
  intro D dT adK adV sz
  refine xEnter (own := RX4) (Qc := xQi D dT K) (by decide) rfl (by rfl) ?_
  intro p e s m args below meth c A ls X hnm hK hA hG hI hl
  have hx := X.1
  have hb := X.2.1
  have hts := X.2.2.2.2.1
  have hown := X.2.2.2.2.2.1
  have hl : lv_has ls 2 [(0, .ref a0), (1, .int a1)] := hl
  unfold x_X4_riskOf at hs
  refine lv_aload_n hx hb dX4_riskOf_0 rfl (lv_at hl 0 rfl) ?_
  obtain ⟨ad1, ead1, hs⟩ := hs
  refine x_get (v := .ref ad1) X hK hI 4 6 rfl in_X4 rfl q269 rfl (xgr_spec ead1) dX4_riskOf_1 ?_
  refine lv_iload_n hx hb dX4_riskOf_4 rfl (lv_at hl 1 rfl) ?_
  obtain ⟨ad2, ead2, hs⟩ := hs
  refine x_aald X hK hI 7 rfl rfl ead2 dX4_riskOf_5 ?_
  refine lv_aload_n hx hb dX4_riskOf_6 rfl (lv_at hl 0 rfl) ?_
  obtain ⟨ad3, ead3, hs⟩ := hs
  refine x_get (v := .ref ad3) X hK hI 4 7 rfl in_X4 rfl q273 rfl (xgr_spec ead3) dX4_riskOf_7 ?_
  refine lv_iload_n hx hb dX4_riskOf_10 rfl (lv_at hl 1 rfl) ?_
  obtain ⟨v4, ev4, hs⟩ := hs
  refine x_iald X hK hI ev4 dX4_riskOf_11 ?_
  refine lv_aload_n hx hb dX4_riskOf_12 rfl (lv_at hl 0 rfl) ?_
  refine lv_aload_n hx hb dX4_riskOf_13 rfl (lv_at hl 0 rfl) ?_
  obtain ⟨ad5, ead5, hs⟩ := hs
  refine x_get (v := .ref ad5) X hK hI 4 7 rfl in_X4 rfl q273 rfl (xgr_spec ead5) dX4_riskOf_14 ?_
  refine lv_iload_n hx hb dX4_riskOf_17 rfl (lv_at hl 1 rfl) ?_
  obtain ⟨v6, ev6, hs⟩ := hs
  refine x_iald X hK hI ev6 dX4_riskOf_18 ?_
  refine lv_aload_n hx hb dX4_riskOf_19 rfl (lv_at hl 0 rfl) ?_
  obtain ⟨ad7, ead7, hs⟩ := hs
  refine x_get (v := .ref ad7) X hK hI 4 8 rfl in_X4 rfl q277 rfl (xgr_spec ead7) dX4_riskOf_20 ?_
  refine lv_iload_n hx hb dX4_riskOf_23 rfl (lv_at hl 1 rfl) ?_
  obtain ⟨v8, ev8, hs⟩ := hs
  refine x_iald X hK hI ev8 dX4_riskOf_24 ?_
  obtain ⟨h10, hs⟩ := hs
  obtain ⟨fh10, h10⟩ := xcl_spec h10
  refine x_goi hA hI (x_runV (As := [.int v6, .int v8]) (rest := [.int v4, .ref ad2]) X hK hA hG hI h10 (q := (RX4, TX4, 13)) rfl rfl (xet_X4_slackIn l a0 v6 v8 _ _ hs) iX4_slackIn q693 q694 q695 q98 ⟨(Nat.le_of_ble_eq_true rfl), (Nat.le_of_ble_eq_true rfl)⟩ rfl hl.1 rfl (Nat.le_of_ble_eq_true rfl) dX4_riskOf_25 ⟨(Nat.le_of_ble_eq_true rfl), (Nat.le_of_ble_eq_true rfl)⟩) (fun r10 C9 H locs hs9 hI => ?_)
  replace hs := hs9
  refine lv_aload_n hx hb dX4_riskOf_28 rfl (lv_at hl 0 rfl) ?_
  refine lv_aload_n hx hb dX4_riskOf_29 rfl (lv_at hl 0 rfl) ?_
  obtain ⟨ad12, ead12, hs⟩ := hs
  refine x_get (v := .ref ad12) X hK hI 4 8 rfl in_X4 rfl q277 rfl (xgr_spec ead12) dX4_riskOf_30 ?_
  refine lv_iload_n hx hb dX4_riskOf_33 rfl (lv_at hl 1 rfl) ?_
  obtain ⟨v13, ev13, hs⟩ := hs
  refine x_iald X hK hI ev13 dX4_riskOf_34 ?_
  obtain ⟨h15, hs⟩ := hs
  obtain ⟨fh15, h15⟩ := xcl_spec h15
  refine x_goi hA hI (x_runV (As := [.int v13]) (rest := [.int r10, .int v4, .ref ad2]) X hK hA hG hI h15 (q := (RX4, TX4, 13)) rfl rfl (xet_X4_holesIn l a0 v13 _ _ hs) iX4_holesIn q749 q750 q751 q98 ⟨(Nat.le_of_ble_eq_true rfl), (Nat.le_of_ble_eq_true rfl)⟩ rfl hl.1 rfl (Nat.le_of_ble_eq_true rfl) dX4_riskOf_35 ⟨(Nat.le_of_ble_eq_true rfl), (Nat.le_of_ble_eq_true rfl)⟩) (fun r15 C14 H locs hs9 hI => ?_)
  replace hs := hs9
  refine x_goi hA hI (vdc_X13_risk (rest := []) X hK hA hG hI ad2 v4 r10 r15 _ hs q753 ⟨(Nat.le_of_ble_eq_true rfl), (Nat.le_of_ble_eq_true rfl)⟩ hl.1 (Nat.le_of_ble_eq_true rfl) dX4_riskOf_38 ⟨(Nat.le_of_ble_eq_true rfl), (Nat.le_of_ble_eq_true rfl)⟩) (fun r18 C17 H locs hs9 hI => ?_)
  replace hs := hs9
  exact x_reti X hK hI hs (Nat.le_of_ble_eq_true rfl) (Nat.le_of_ble_eq_true rfl) dX4_riskOf_41
def x_X4_strideOf (a0 : Nat) (a1 : Int32) (C : XH) (K : Int32 → XH → Prop) : Prop := obd (xgr C (xis 4) a0 6) (fun ad1 => obd (xar C 7 ad1 a1) (fun ad2 => obd (xgr C (xis 4) a0 7) (fun ad3 => obd (xai C 0 ad3 a1) (fun v4 => obd (xgr C (xis 4) a0 7) (fun ad5 => obd (xai C 0 ad5 a1) (fun v6 => obd (xgr C (xis 4) a0 8) (fun ad7 => obd (xai C 0 ad7 a1) (fun v8 => (xcl C a0 = some 4 ∧ x_X4_slackIn a0 v6 v8 C (fun r10 C9 => vd_X13_stride ad2 v4 r10 C9 (fun r13 C12 => K r13 C12)))))))))))
theorem iX4_strideOf : xInf yX4_strideOf cX4_strideOf 2 (some .int) 1 := ⟨q692, by decide +kernel⟩
set_option maxHeartbeats 4000000 in
theorem xet_X4_strideOf (l : Launch) (a0 : Nat) (a1 : Int32) (C : XH) (K : Int32 → XH → Prop) (hs : x_X4_strideOf a0 a1 C K) : xMeti l yX4_strideOf (ws_ yX4_strideOf cX4_strideOf 2 (some .int)) 3 68 0 0 C [.ref a0, .int a1] K := by
  intro D dT adK adV sz
  refine xEnter (own := RX4) (Qc := xQi D dT K) (by decide) rfl (by rfl) ?_
  intro p e s m args below meth c A ls X hnm hK hA hG hI hl
  have hx := X.1
  have hb := X.2.1
  have hts := X.2.2.2.2.1
  have hown := X.2.2.2.2.2.1
  have hl : lv_has ls 2 [(0, .ref a0), (1, .int a1)] := hl
  unfold x_X4_strideOf at hs
  refine lv_aload_n hx hb dX4_strideOf_0 rfl (lv_at hl 0 rfl) ?_
  obtain ⟨ad1, ead1, hs⟩ := hs
  refine x_get (v := .ref ad1) X hK hI 4 6 rfl in_X4 rfl q269 rfl (xgr_spec ead1) dX4_strideOf_1 ?_
  refine lv_iload_n hx hb dX4_strideOf_4 rfl (lv_at hl 1 rfl) ?_
  obtain ⟨ad2, ead2, hs⟩ := hs
  refine x_aald X hK hI 7 rfl rfl ead2 dX4_strideOf_5 ?_
  refine lv_aload_n hx hb dX4_strideOf_6 rfl (lv_at hl 0 rfl) ?_
  obtain ⟨ad3, ead3, hs⟩ := hs
  refine x_get (v := .ref ad3) X hK hI 4 7 rfl in_X4 rfl q273 rfl (xgr_spec ead3) dX4_strideOf_7 ?_
  refine lv_iload_n hx hb dX4_strideOf_10 rfl (lv_at hl 1 rfl) ?_
  obtain ⟨v4, ev4, hs⟩ := hs
  refine x_iald X hK hI ev4 dX4_strideOf_11 ?_
  refine lv_aload_n hx hb dX4_strideOf_12 rfl (lv_at hl 0 rfl) ?_
  refine lv_aload_n hx hb dX4_strideOf_13 rfl (lv_at hl 0 rfl) ?_
  obtain ⟨ad5, ead5, hs⟩ := hs
  refine x_get (v := .ref ad5) X hK hI 4 7 rfl in_X4 rfl q273 rfl (xgr_spec ead5) dX4_strideOf_14 ?_
  refine lv_iload_n hx hb dX4_strideOf_17 rfl (lv_at hl 1 rfl) ?_
  obtain ⟨v6, ev6, hs⟩ := hs
  refine x_iald X hK hI ev6 dX4_strideOf_18 ?_
  refine lv_aload_n hx hb dX4_strideOf_19 rfl (lv_at hl 0 rfl) ?_
  obtain ⟨ad7, ead7, hs⟩ := hs
  refine x_get (v := .ref ad7) X hK hI 4 8 rfl in_X4 rfl q277 rfl (xgr_spec ead7) dX4_strideOf_20 ?_
  refine lv_iload_n hx hb dX4_strideOf_23 rfl (lv_at hl 1 rfl) ?_
  obtain ⟨v8, ev8, hs⟩ := hs
  refine x_iald X hK hI ev8 dX4_strideOf_24 ?_
  obtain ⟨h10, hs⟩ := hs
  obtain ⟨fh10, h10⟩ := xcl_spec h10
  refine x_goi hA hI (x_runV (As := [.int v6, .int v8]) (rest := [.int v4, .ref ad2]) X hK hA hG hI h10 (q := (RX4, TX4, 13)) rfl rfl (xet_X4_slackIn l a0 v6 v8 _ _ hs) iX4_slackIn q693 q694 q695 q98 ⟨(Nat.le_of_ble_eq_true rfl), (Nat.le_of_ble_eq_true rfl)⟩ rfl hl.1 rfl (Nat.le_of_ble_eq_true rfl) dX4_strideOf_25 ⟨(Nat.le_of_ble_eq_true rfl), (Nat.le_of_ble_eq_true rfl)⟩) (fun r10 C9 H locs hs9 hI => ?_)
  replace hs := hs9
  refine x_goi hA hI (vdc_X13_stride (rest := []) X hK hA hG hI ad2 v4 r10 _ hs q704 ⟨(Nat.le_of_ble_eq_true rfl), (Nat.le_of_ble_eq_true rfl)⟩ hl.1 (Nat.le_of_ble_eq_true rfl) dX4_strideOf_28 ⟨(Nat.le_of_ble_eq_true rfl), (Nat.le_of_ble_eq_true rfl)⟩) (fun r13 C12 H locs hs9 hI => ?_)
  replace hs := hs9
  exact x_reti X hK hI hs (Nat.le_of_ble_eq_true rfl) (Nat.le_of_ble_eq_true rfl) dX4_strideOf_31
