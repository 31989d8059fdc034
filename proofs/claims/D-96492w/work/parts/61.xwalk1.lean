set_option maxRecDepth 100000
def x_X0_newRow (a0 : Int32) (a1 : Int32) (C : XH) (K : Nat → XH → Prop) (E : Nat → XH → Prop) : Prop := (if a0 = 0 then xnew C (.inr (9, [.null])) (fun ad2 C3 => x_X9_init ad2 a1 C3 (fun C4 => K ad2 C4)) else if a0 = 1 then xnew C (.inr (10, [.null])) (fun ad5 C6 => x_X10_init ad5 a1 C6 (fun C7 => K ad5 C7)) else if a0 = 2 then xnew C (.inr (11, [.null])) (fun ad8 C9 => x_X11_init ad8 a1 C9 (fun C10 => K ad8 C10)) else if a0 = 3 then xnew C (.inr (12, [.null])) (fun ad11 C12 => x_X12_init ad11 a1 C12 (fun C13 => K ad11 C13)) else xnew C (.inr (7, [.null, .null, .null, .null, .null, .int 0, .int 0])) (fun ad14 C15 => x_X7_init ad14 (-6) C15 (fun C16 => (xcl C16 ad14 = some 7 ∧ E ad14 C16))))
theorem iX0_newRow : xInfW yX0_newRow cX0_newRow 3 (some (.object RX8)) [(0, 40, 78, 149), (41, 49, 78, 149), (50, 58, 78, 149), (59, 67, 78, 149), (68, 78, 78, 149)] 2 := ⟨q478, by decide +kernel⟩
set_option maxHeartbeats 4000000 in
theorem xet_X0_newRow (l : Launch) (hl0 : l.stackTraces = false) (a0 : Int32) (a1 : Int32) (C : XH) (K : Nat → XH → Prop) (E : Nat → XH → Prop) (hs : x_X0_newRow a0 a1 C K E) : xMetX l yX0_newRow (wsW_ yX0_newRow cX0_newRow 3 (some (.object RX8)) [(0, 40, 78, 149), (41, 49, 78, 149), (50, 58, 78, 149), (59, 67, 78, 149), (68, 78, 78, 149)]) 4 93 3 168 C [.int a0, .int a1] (fun D dT A => xQr D dT K A) (xEK RX7 E) := by
  intro D dT adK adV sz
  refine xEnterW (own := RX0) (Qc := xQr D dT K) (XC := xXC D dT (xEK RX7 E)) (by decide) rfl (by rfl) ?_
  intro p e s m args below meth c A ls X hnm hK hA hG hT hI hl
  have hx := X.1
  have hb := X.2.1
  have hts := X.2.2.2.2.1
  have hown := X.2.2.2.2.2.1
  have hl : lv_has ls 3 [(0, .int a0), (1, .int a1)] := hl
  unfold x_X0_newRow at hs
  refine lv_iload_n hx hb dX0_newRow_0 rfl (lv_at hl 0 rfl) ?_
  by_cases c0_0 : a0 = 0
  · replace hs := ifp c0_0 hs
    refine lv_tableIn (tgt := 32) hx hb dX0_newRow_1 (by rw [c0_0]; decide) (by rw [c0_0]; decide) (by rw [c0_0]; rfl) (by decide) ?_
    refine x_new X hK hI hA 9 (fs := [.null]) rfl in_X9 tyX9 tyX9_ok q493 q494 q110 rfl (Nat.le_of_ble_eq_true rfl) (Nat.le_of_ble_eq_true rfl) hs dX0_newRow_32 (fun ad2 C3 H hs9 hI => ?_)
    replace hs := hs9
    refine lv_dup hx hb dX0_newRow_35 rfl ?_
    refine lv_iload_n hx hb dX0_newRow_36 rfl (lv_at hl 1 rfl) ?_
    refine x_gov hA hI (x_runI (As := [.int a1]) (rest := [.ref ad2]) X hK hA hG hI (xet_X9_init l ad2 a1 _ _ hs) iX9_init rfl q495 q496 q110 ⟨(Nat.le_of_ble_eq_true rfl), (Nat.le_of_ble_eq_true rfl)⟩ rfl hl.1 rfl (Nat.le_of_ble_eq_true rfl) dX0_newRow_37 ⟨(Nat.le_of_ble_eq_true rfl), (Nat.le_of_ble_eq_true rfl)⟩) (fun C4 H locs hs9 hI => ?_)
    replace hs := hs9
    exact vx_ret (x_retr X hK hI hs (Nat.le_of_ble_eq_true rfl) (Nat.le_of_ble_eq_true rfl) dX0_newRow_40)
  · replace hs := ifn c0_0 hs
    by_cases c0_1 : a0 = 1
    · replace hs := ifp c0_1 hs
      refine lv_tableIn (tgt := 41) hx hb dX0_newRow_1 (by rw [c0_1]; decide) (by rw [c0_1]; decide) (by rw [c0_1]; rfl) (by decide) ?_
      refine x_new X hK hI hA 10 (fs := [.null]) rfl in_X10 tyX10 tyX10_ok q506 q507 q111 rfl (Nat.le_of_ble_eq_true rfl) (Nat.le_of_ble_eq_true rfl) hs dX0_newRow_41 (fun ad5 C6 H hs9 hI => ?_)
      replace hs := hs9
      refine lv_dup hx hb dX0_newRow_44 rfl ?_
      refine lv_iload_n hx hb dX0_newRow_45 rfl (lv_at hl 1 rfl) ?_
      refine x_gov hA hI (x_runI (As := [.int a1]) (rest := [.ref ad5]) X hK hA hG hI (xet_X10_init l ad5 a1 _ _ hs) iX10_init rfl q508 q509 q111 ⟨(Nat.le_of_ble_eq_true rfl), (Nat.le_of_ble_eq_true rfl)⟩ rfl hl.1 rfl (Nat.le_of_ble_eq_true rfl) dX0_newRow_46 ⟨(Nat.le_of_ble_eq_true rfl), (Nat.le_of_ble_eq_true rfl)⟩) (fun C7 H locs hs9 hI => ?_)
      replace hs := hs9
      exact vx_ret (x_retr X hK hI hs (Nat.le_of_ble_eq_true rfl) (Nat.le_of_ble_eq_true rfl) dX0_newRow_49)
    · replace hs := ifn c0_1 hs
      by_cases c0_2 : a0 = 2
      · replace hs := ifp c0_2 hs
        refine lv_tableIn (tgt := 50) hx hb dX0_newRow_1 (by rw [c0_2]; decide) (by rw [c0_2]; decide) (by rw [c0_2]; rfl) (by decide) ?_
        refine x_new X hK hI hA 11 (fs := [.null]) rfl in_X11 tyX11 tyX11_ok q517 q518 q112 rfl (Nat.le_of_ble_eq_true rfl) (Nat.le_of_ble_eq_true rfl) hs dX0_newRow_50 (fun ad8 C9 H hs9 hI => ?_)
        replace hs := hs9
        refine lv_dup hx hb dX0_newRow_53 rfl ?_
        refine lv_iload_n hx hb dX0_newRow_54 rfl (lv_at hl 1 rfl) ?_
        refine x_gov hA hI (x_runI (As := [.int a1]) (rest := [.ref ad8]) X hK hA hG hI (xet_X11_init l ad8 a1 _ _ hs) iX11_init rfl q519 q520 q112 ⟨(Nat.le_of_ble_eq_true rfl), (Nat.le_of_ble_eq_true rfl)⟩ rfl hl.1 rfl (Nat.le_of_ble_eq_true rfl) dX0_newRow_55 ⟨(Nat.le_of_ble_eq_true rfl), (Nat.le_of_ble_eq_true rfl)⟩) (fun C10 H locs hs9 hI => ?_)
        replace hs := hs9
        exact vx_ret (x_retr X hK hI hs (Nat.le_of_ble_eq_true rfl) (Nat.le_of_ble_eq_true rfl) dX0_newRow_58)
      · replace hs := ifn c0_2 hs
        by_cases c0_3 : a0 = 3
        · replace hs := ifp c0_3 hs
          refine lv_tableIn (tgt := 59) hx hb dX0_newRow_1 (by rw [c0_3]; decide) (by rw [c0_3]; decide) (by rw [c0_3]; rfl) (by decide) ?_
          refine x_new X hK hI hA 12 (fs := [.null]) rfl in_X12 tyX12 tyX12_ok q527 q528 q113 rfl (Nat.le_of_ble_eq_true rfl) (Nat.le_of_ble_eq_true rfl) hs dX0_newRow_59 (fun ad11 C12 H hs9 hI => ?_)
          replace hs := hs9
          refine lv_dup hx hb dX0_newRow_62 rfl ?_
          refine lv_iload_n hx hb dX0_newRow_63 rfl (lv_at hl 1 rfl) ?_
          refine x_gov hA hI (x_runI (As := [.int a1]) (rest := [.ref ad11]) X hK hA hG hI (xet_X12_init l ad11 a1 _ _ hs) iX12_init rfl q529 q530 q113 ⟨(Nat.le_of_ble_eq_true rfl), (Nat.le_of_ble_eq_true rfl)⟩ rfl hl.1 rfl (Nat.le_of_ble_eq_true rfl) dX0_newRow_64 ⟨(Nat.le_of_ble_eq_true rfl), (Nat.le_of_ble_eq_true rfl)⟩) (fun C13 H locs hs9 hI => ?_)
          replace hs := hs9
          exact vx_ret (x_retr X hK hI hs (Nat.le_of_ble_eq_true rfl) (Nat.le_of_ble_eq_true rfl) dX0_newRow_67)
        · replace hs := ifn c0_3 hs
          refine lv_tableOut (tgt := 68) hx hb dX0_newRow_1 (sw_out (fun k h1 h2 => by
            have h3 : k = 0 ∨ k = 1 ∨ k = 2 ∨ k = 3 := by omega
            rcases h3 with rfl | rfl | rfl | rfl
            · exact lv_neT c0_0 rfl
            · exact lv_neT c0_1 rfl
            · exact lv_neT c0_2 rfl
            · exact lv_neT c0_3 rfl
            )) (by decide) ?_
          refine x_new X hK hI hA 7 (fs := [.null, .null, .null, .null, .null, .int 0, .int 0]) rfl in_X7 tyX7 tyX7_ok q363 q446 q107 rfl (Nat.le_of_ble_eq_true rfl) (Nat.le_of_ble_eq_true rfl) hs dX0_newRow_68 (fun ad14 C15 H hs9 hI => ?_)
          replace hs := hs9
          refine lv_dup hx hb dX0_newRow_71 rfl ?_
          refine lv_bipush (v := (-6)) hx hb dX0_newRow_72 (by decide) ?_
          refine x_gov hA hI (x_runI (As := [.int (-6)]) (rest := [.ref ad14]) X hK hA hG hI (xet_X7_init l ad14 (-6) _ _ hs) iX7_init rfl q454 q455 q107 ⟨(Nat.le_of_ble_eq_true rfl), (Nat.le_of_ble_eq_true rfl)⟩ rfl hl.1 rfl (Nat.le_of_ble_eq_true rfl) dX0_newRow_74 ⟨(Nat.le_of_ble_eq_true rfl), (Nat.le_of_ble_eq_true rfl)⟩) (fun C16 H locs hs9 hI => ?_)
          replace hs := hs9
          obtain ⟨hf16, hs⟩ := hs
          obtain ⟨f16, hf16⟩ := xcl_spec hf16
          obtain ⟨ce, hce, hvm, hcl⟩ := x_thrown hK hI hf16 rfl
          refine vx_athrow hx hb dX0_newRow_77 ?_
          exact x_pass2 X hK hG hT (by intro z hz; have hz : z ∈ tableOf [(0, 40, 78, 149), (41, 49, 78, 149), (50, 58, 78, 149), (59, 67, 78, 149), (68, 78, 78, 149)] := hz; simp only [tableOf, List.map_cons, List.map_nil, List.mem_cons, List.not_mem_nil, or_false] at hz; rcases hz with rfl | rfl | rfl | rfl | rfl; exact Or.inl rfl; exact Or.inl rfl; exact Or.inl rfl; exact Or.inl rfl; exact Or.inr ⟨by decide, RJ6, q479, by decide⟩) hI hce hvm hcl ⟨rfl, hs⟩ (Nat.le_of_ble_eq_true rfl) (Nat.le_of_ble_eq_true rfl)
def x_X0_refused (a0 : Nat) (a1 : Nat) (C : XH) (K : Int32 → XH → Prop) : Prop := obd (xgr C (xis 0) a0 1) (fun ad1 => obd (xgi C (xis 7) a1 6) (fun v2 => obd (xai C 0 ad1 (-v2)) (fun v3 => obd (xsi C ad1 (-v2) (v3 + 1)) (fun C4 => obd (xgi C4 (xis 7) a1 6) (fun v5 => K v5 C4)))))
theorem iX0_refused : xInf yX0_refused cX0_refused 2 (some .int) 1 := ⟨q541, by decide +kernel⟩
set_option maxHeartbeats 4000000 in
theorem xet_X0_refused (l : Launch) (a0 : Nat) (a1 : Nat) (C : XH) (K : Int32 → XH → Prop) (hs : x_X0_refused a0 a1 C K) : xMeti l yX0_refused (ws_ yX0_refused cX0_refused 2 (some .int)) 0 0 0 0 C [.ref a0, .ref a1] K := by
  intro D dT adK adV sz
  refine xEnter (own := RX0) (Qc := xQi D dT K) (by decide) rfl (by rfl) ?_
  intro p e s m args below meth c A ls X hnm hK hA hG hI hl
  have hx := X.1
  have hb := X.2.1
  have hts := X.2.2.2.2.1
  have hown := X.2.2.2.2.2.1
  have hl : lv_has ls 2 [(0, .ref a0), (1, .ref a1)] := hl
  unfold x_X0_refused at hs
  refine lv_aload_n hx hb dX0_refused_0 rfl (lv_at hl 0 rfl) ?_
  obtain ⟨ad1, ead1, hs⟩ := hs
  refine x_get (v := .ref ad1) X hK hI 0 1 rfl in_X0 rfl q329 rfl (xgr_spec ead1) dX0_refused_1 ?_
  refine lv_aload_n hx hb dX0_refused_4 rfl (lv_at hl 1 rfl) ?_
  obtain ⟨v2, ev2, hs⟩ := hs
  refine x_get (v := .int v2) X hK hI 7 6 rfl in_X7 rfl q464 rfl (xgi_spec ev2) dX0_refused_5 ?_
  refine lv_ineg hx hb dX0_refused_8 ?_
  refine lv_dup2_11 hx hb dX0_refused_9 rfl rfl ?_
  obtain ⟨v3, ev3, hs⟩ := hs
  refine x_iald X hK hI ev3 dX0_refused_10 ?_
  refine lv_iconst (v := 1) hx hb dX0_refused_11 (by decide) ?_
  refine lv_iadd hx hb dX0_refused_12 ?_
  obtain ⟨C4, eC4, hs⟩ := hs
  refine x_iast X hK hI eC4 dX0_refused_13 (fun H locs hI => ?_)
  refine lv_aload_n hx hb dX0_refused_14 rfl (lv_at hl 1 rfl) ?_
  obtain ⟨v5, ev5, hs⟩ := hs
  refine x_get (v := .int v5) X hK hI 7 6 rfl in_X7 rfl q464 rfl (xgi_spec ev5) dX0_refused_15 ?_
  exact x_reti X hK hI hs (Nat.le_of_ble_eq_true rfl) (Nat.le_of_ble_eq_true rfl) dX0_refused_18
def x_X0_shelf (a0 : Nat) (a1 : Int32) (C : XH) (K : Nat → XH → Prop) (E : Nat → XH → Prop) : Prop := obd (xgr C (xis 0) a0 0) (fun ad1 => xarT C 4 ad1 a1 (fun ad4 => K ad4 C) (fun ad3 => xnew C (.inr (7, [.null, .null, .null, .null, .null, .int 0, .int 0])) (fun ad5 C6 => x_X7_init ad5 (-1) C6 (fun C7 => (xcl C7 ad5 = some 7 ∧ E ad5 C7)))))
theorem iX0_shelf : xInfW yX0_shelf cX0_shelf 3 (some (.object RX5)) [(0, 6, 7, 110)] 1 := ⟨q367, by decide +kernel⟩
set_option maxHeartbeats 4000000 in
theorem xet_X0_shelf (l : Launch) (hl0 : l.stackTraces = false) (a0 : Nat) (a1 : Int32) (C : XH) (K : Nat → XH → Prop) (E : Nat → XH → Prop) (hs : x_X0_shelf a0 a1 C K E) : xMetX l yX0_shelf (wsW_ yX0_shelf cX0_shelf 3 (some (.object RX5)) [(0, 6, 7, 110)]) 12 10300 4 1017 C [.ref a0, .int a1] (fun D dT A => xQr D dT K A) (xEK RX7 E) := by
  intro D dT adK adV sz
  refine xEnterW (own := RX0) (Qc := xQr D dT K) (XC := xXC D dT (xEK RX7 E)) (by decide) rfl (by rfl) ?_
  intro p e s m args below meth c A ls X hnm hK hA hG hT hI hl
  have hx := X.1
  have hb := X.2.1
  have hts := X.2.2.2.2.1
  have hown := X.2.2.2.2.2.1
  have hl : lv_has ls 3 [(0, .ref a0), (1, .int a1)] := hl
  unfold x_X0_shelf at hs
  refine lv_aload_n hx hb dX0_shelf_0 rfl (lv_at hl 0 rfl) ?_
  obtain ⟨ad1, ead1, hs⟩ := hs
  refine x_get (v := .ref ad1) X hK hI 0 0 rfl in_X0 rfl q328 rfl (xgr_spec ead1) dX0_shelf_1 ?_
  refine lv_iload_n hx hb dX0_shelf_4 rfl (lv_at hl 1 rfl) ?_
  refine x_aaldT 4 X hK hG hI rfl hs hl0 hl.1 (Nat.le_of_ble_eq_true rfl) (Nat.le_of_ble_eq_true rfl) (Nat.le_of_ble_eq_true rfl) (Nat.le_of_ble_eq_true rfl) dX0_shelf_5 (fun ce ad3 H hs9 hI hce hvm hcl => ?_) (fun ad4 hs9 => ?_)
  · replace hs := hs9
    refine x_catch (k := 0) (a1 := 0) (a2 := 6) (a3 := 7) (a4 := 110) X hG hT rfl (x_cov rfl) rfl (by decide) q368 (by decide) hce hvm hcl ?_
    refine lv_astore_n (lv' := [(2, .ref ad3), (0, .ref a0), (1, .int a1)]) hx hb dX0_shelf_7 rfl hl (by decide) rfl (fun ls hl => ?_)
    refine x_new X hK hI hA 7 (fs := [.null, .null, .null, .null, .null, .int 0, .int 0]) rfl in_X7 tyX7 tyX7_ok q363 q446 q107 rfl (Nat.le_of_ble_eq_true rfl) (Nat.le_of_ble_eq_true rfl) hs dX0_shelf_8 (fun ad5 C6 H hs9 hI => ?_)
    replace hs := hs9
    refine lv_dup hx hb dX0_shelf_11 rfl ?_
    refine lv_iconst (v := (-1)) hx hb dX0_shelf_12 (by decide) ?_
    refine x_gov hA hI (x_runI (As := [.int (-1)]) (rest := [.ref ad5]) X hK hA hG hI (xet_X7_init l ad5 (-1) _ _ hs) iX7_init rfl q454 q455 q107 ⟨(Nat.le_of_ble_eq_true rfl), (Nat.le_of_ble_eq_true rfl)⟩ rfl hl.1 rfl (Nat.le_of_ble_eq_true rfl) dX0_shelf_13 ⟨(Nat.le_of_ble_eq_true rfl), (Nat.le_of_ble_eq_true rfl)⟩) (fun C7 H locs hs9 hI => ?_)
    replace hs := hs9
    obtain ⟨hf7, hs⟩ := hs
    obtain ⟨f7, hf7⟩ := xcl_spec hf7
    obtain ⟨ce, hce, hvm, hcl⟩ := x_thrown hK hI hf7 rfl
    refine vx_athrow hx hb dX0_shelf_16 ?_
    exact x_pass X hK hT rfl hI hce hvm hcl ⟨rfl, hs⟩ (Nat.le_of_ble_eq_true rfl) (Nat.le_of_ble_eq_true rfl)
  · replace hs := hs9
    exact vx_ret (x_retr X hK hI hs (Nat.le_of_ble_eq_true rfl) (Nat.le_of_ble_eq_true rfl) dX0_shelf_6)
def x_X0_row (a0 : Nat) (a1 : Int32) (a2 : Int32) (a3 : Int32) (C : XH) (K : Int32 → XH → Prop) : Prop := (xcl C a0 = some 0 ∧ x_X0_shelf a0 a1 C (fun ad2 C1 => jn (fun (v4 : Int32) => x_X0_need v4 (-4) C1 (fun C5 => x_X0_in ((a2 : Int32).toInt64) 0 3 C5 (fun r7 C6 => x_X0_need r7 (-6) C6 (fun C8 => jn (fun (v9 : Int32) => x_X0_need v9 (-7) C8 (fun C10 => x_X0_newRow a2 a3 C10 (fun ad12 C11 => obd (xpv C11 (xis 5) ad2 0 (.ref ad12)) (fun C13 => K 1 C13)) (fun ad14 C15 => (xcl C15 a0 = some 0 ∧ x_X0_refused a0 ad14 C15 (fun r17 C16 => K r17 C16)))) (fun ad19 C20 => (xcl C20 a0 = some 0 ∧ x_X0_refused a0 ad19 C20 (fun r22 C21 => K r22 C21)))) (fun k47_9 => (if 160 < a3 then k47_9 0 else k47_9 1))) (fun ad25 C26 => (xcl C26 a0 = some 0 ∧ x_X0_refused a0 ad25 C26 (fun r28 C27 => K r28 C27))))) (fun ad30 C31 => (xcl C31 a0 = some 0 ∧ x_X0_refused a0 ad30 C31 (fun r33 C32 => K r33 C32)))) (fun k16_4 => (if a3 < 0 then k16_4 0 else k16_4 1))) (fun ad36 C37 => (xcl C37 a0 = some 0 ∧ x_X0_refused a0 ad36 C37 (fun r39 C38 => K r39 C38))))
theorem iX0_row : xInfW yX0_row cX0_row 5 (some .int) [(0, 63, 64, 21)] 3 := ⟨q362, by decide +kernel⟩
set_option maxHeartbeats 4000000 in
theorem xet_X0_row (l : Launch) (hl0 : l.stackTraces = false) (a0 : Nat) (a1 : Int32) (a2 : Int32) (a3 : Int32) (C : XH) (K : Int32 → XH → Prop) (hs : x_X0_row a0 a1 a2 a3 C K) : xMetX l yX0_row (wsW_ yX0_row cX0_row 5 (some .int) [(0, 63, 64, 21)]) 13 10322 10 1206 C [.ref a0, .int a1, .int a2, .int a3] (fun D dT A => xQi D dT K A) xE0 := by
  intro D dT adK adV sz
  refine xEnterW (own := RX0) (Qc := xQi D dT K) (XC := xXC D dT xE0) (by decide) rfl (by rfl) ?_
  intro p e s m args below meth c A ls X hnm hK hA hG hT hI hl
  have hx := X.1
  have hb := X.2.1
  have hts := X.2.2.2.2.1
  have hown := X.2.2.2.2.2.1
  have hl : lv_has ls 5 [(0, .ref a0), (1, .int a1), (2, .int a2), (3, .int a3)] := hl
  unfold x_X0_row at hs
  refine lv_aload_n hx hb dX0_row_0 rfl (lv_at hl 0 rfl) ?_
  refine lv_iload_n hx hb dX0_row_1 rfl (lv_at hl 1 rfl) ?_
  obtain ⟨h2, hs⟩ := hs
  obtain ⟨fh2, h2⟩ := xcl_spec h2
  refine xT_gor hA hI (x_runVTW (As := [.int a1]) (rest := []) X hK hA hG hI h2 (q := (RX0, TX0, 10)) rfl rfl (xet_X0_shelf l hl0 a0 a1 _ _ _ hs) iX0_shelf q364 q366 qs0 q94 ⟨(Nat.le_of_ble_eq_true rfl), (Nat.le_of_ble_eq_true rfl)⟩ rfl hl.1 rfl (Nat.le_of_ble_eq_true rfl) dX0_row_2 ⟨(Nat.le_of_ble_eq_true rfl), (Nat.le_of_ble_eq_true rfl)⟩) (fun En ce ad36 C37 H locs hs9 hI hce hvm hcl => ?_) (fun ad2 C1 H locs hs9 hI => ?_)
  · obtain ⟨rfl, hs0⟩ := hs9
    replace hs := hs0
    refine x_catch (k := 0) (a1 := 0) (a2 := 63) (a3 := 64) (a4 := 21) X hG hT rfl (x_cov rfl) rfl (by decide) q363 (by decide) hce hvm hcl ?_
    refine lv_astore (lv' := [(4, .ref ad36), (0, .ref a0), (1, .int a1), (2, .int a2), (3, .int a3)]) hx hb dX0_row_64 hl (by decide) rfl (fun ls hl => ?_)
    refine lv_aload_n hx hb dX0_row_66 rfl (lv_at hl 1 rfl) ?_
    refine lv_aload hx hb dX0_row_67 (lv_at hl 0 rfl) ?_
    obtain ⟨h39, hs⟩ := hs
    obtain ⟨fh39, h39⟩ := xcl_spec h39
    refine x_goi hA hI (x_runV (As := [.ref ad36]) (rest := []) X hK hA hG hI h39 (q := (RX0, TX0, 10)) rfl rfl (xet_X0_refused l a0 ad36 _ _ hs) iX0_refused q538 q540 qs2 q94 ⟨(Nat.le_of_ble_eq_true rfl), (Nat.le_of_ble_eq_true rfl)⟩ rfl hl.1 rfl (Nat.le_of_ble_eq_true rfl) dX0_row_69 ⟨(Nat.le_of_ble_eq_true rfl), (Nat.le_of_ble_eq_true rfl)⟩) (fun r39 C38 H locs hs9 hI => ?_)
    replace hs := hs9
    exact vx_ret (x_reti X hK hI hs (Nat.le_of_ble_eq_true rfl) (Nat.le_of_ble_eq_true rfl) dX0_row_72)
  · replace hs := hs9
    refine lv_astore (lv' := [(4, .ref ad2), (0, .ref a0), (1, .int a1), (2, .int a2), (3, .int a3)]) hx hb dX0_row_5 hl (by decide) rfl (fun ls hl => ?_)
    refine lv_iload_n hx hb dX0_row_7 rfl (lv_at hl 4 rfl) ?_
    obtain ⟨k16_4, hk16_4, hs⟩ := jn_ex hs
    have Ek16_4 : ∀ (v4 : Int32) (H : Heap) (locs : List Loc) (ls : Array Slot), k16_4 v4 → xI D dT A s.heap C1 H locs → lv_has ls 5 [(0, .ref a0), (2, .int a2), (3, .int a3), (4, .ref ad2)] → W p l e (xRm 13 10322 10 1206) s m args below meth c H locs 4 1017 (vx_MQ below (xQi D dT K A) (xXC D dT xE0 A) args s 10 1206 A) (F0 m 16 ls [.int v4]) := by
      intro v4 H locs ls hs hI hl
      rw [hk16_4] at hs
      refine lv_bipush (v := (-4)) hx hb dX0_row_16 (by decide) ?_
      refine xT_gov hA hI (x_runST (As := [.int v4, .int (-4)]) (rest := []) X hK hA hG hI (xet_X0_need l hl0 v4 (-4) _ _ _ hs) iX0_need q469 q470 q94 ⟨(Nat.le_of_ble_eq_true rfl), (Nat.le_of_ble_eq_true rfl)⟩ rfl hl.1 rfl (Nat.le_of_ble_eq_true rfl) dX0_row_18 ⟨(Nat.le_of_ble_eq_true rfl), (Nat.le_of_ble_eq_true rfl)⟩) (fun En ce ad30 C31 H locs hs9 hI hce hvm hcl => ?_) (fun C5 H locs hs9 hI => ?_)
      · obtain ⟨rfl, hs0⟩ := hs9
        replace hs := hs0
        refine x_catch (k := 0) (a1 := 0) (a2 := 63) (a3 := 64) (a4 := 21) X hG hT rfl (x_cov rfl) rfl (by decide) q363 (by decide) hce hvm hcl ?_
        refine lv_astore (lv' := [(4, .ref ad30), (0, .ref a0), (2, .int a2), (3, .int a3)]) hx hb dX0_row_64 hl (by decide) rfl (fun ls hl => ?_)
        refine lv_aload_n hx hb dX0_row_66 rfl (lv_at hl 1 rfl) ?_
        refine lv_aload hx hb dX0_row_67 (lv_at hl 0 rfl) ?_
        obtain ⟨h33, hs⟩ := hs
        obtain ⟨fh33, h33⟩ := xcl_spec h33
        refine x_goi hA hI (x_runV (As := [.ref ad30]) (rest := []) X hK hA hG hI h33 (q := (RX0, TX0, 10)) rfl rfl (xet_X0_refused l a0 ad30 _ _ hs) iX0_refused q538 q540 qs2 q94 ⟨(Nat.le_of_ble_eq_true rfl), (Nat.le_of_ble_eq_true rfl)⟩ rfl hl.1 rfl (Nat.le_of_ble_eq_true rfl) dX0_row_69 ⟨(Nat.le_of_ble_eq_true rfl), (Nat.le_of_ble_eq_true rfl)⟩) (fun r33 C32 H locs hs9 hI => ?_)
        replace hs := hs9
        exact vx_ret (x_reti X hK hI hs (Nat.le_of_ble_eq_true rfl) (Nat.le_of_ble_eq_true rfl) dX0_row_72)
      · replace hs := hs9
        refine lv_iload_n hx hb dX0_row_21 rfl (lv_at hl 1 rfl) ?_
        refine lv_i2l (v := ((a2 : Int32).toInt64)) hx hb dX0_row_22 rfl ?_
        refine lv_lconst (v := 0) hx hb dX0_row_23 (by decide) ?_
        refine lv_ldc2 hx hb hown (hts _ q472) dX0_row_24 ?_
        refine x_goz hA hI (x_runS (As := [.long ((a2 : Int32).toInt64), .long 0, .long 3]) (rest := []) X hK hA hG hI (xet_X0_in l ((a2 : Int32).toInt64) 0 3 _ _ hs) iX0_in q473 q474 q94 ⟨(Nat.le_of_ble_eq_true rfl), (Nat.le_of_ble_eq_true rfl)⟩ rfl hl.1 rfl (Nat.le_of_ble_eq_true rfl) dX0_row_27 ⟨(Nat.le_of_ble_eq_true rfl), (Nat.le_of_ble_eq_true rfl)⟩) (fun r7 C6 H locs br7 hs9 hI => ?_)
        replace hs := hs9
        refine lv_bipush (v := (-6)) hx hb dX0_row_30 (by decide) ?_
        refine xT_gov hA hI (x_runST (As := [.int r7, .int (-6)]) (rest := []) X hK hA hG hI (xet_X0_need l hl0 r7 (-6) _ _ _ hs) iX0_need q469 q470 q94 ⟨(Nat.le_of_ble_eq_true rfl), (Nat.le_of_ble_eq_true rfl)⟩ rfl hl.1 rfl (Nat.le_of_ble_eq_true rfl) dX0_row_32 ⟨(Nat.le_of_ble_eq_true rfl), (Nat.le_of_ble_eq_true rfl)⟩) (fun En ce ad25 C26 H locs hs9 hI hce hvm hcl => ?_) (fun C8 H locs hs9 hI => ?_)
        · obtain ⟨rfl, hs0⟩ := hs9
          replace hs := hs0
          refine x_catch (k := 0) (a1 := 0) (a2 := 63) (a3 := 64) (a4 := 21) X hG hT rfl (x_cov rfl) rfl (by decide) q363 (by decide) hce hvm hcl ?_
          refine lv_astore (lv' := [(4, .ref ad25), (0, .ref a0), (2, .int a2), (3, .int a3)]) hx hb dX0_row_64 hl (by decide) rfl (fun ls hl => ?_)
          refine lv_aload_n hx hb dX0_row_66 rfl (lv_at hl 1 rfl) ?_
          refine lv_aload hx hb dX0_row_67 (lv_at hl 0 rfl) ?_
          obtain ⟨h28, hs⟩ := hs
          obtain ⟨fh28, h28⟩ := xcl_spec h28
          refine x_goi hA hI (x_runV (As := [.ref ad25]) (rest := []) X hK hA hG hI h28 (q := (RX0, TX0, 10)) rfl rfl (xet_X0_refused l a0 ad25 _ _ hs) iX0_refused q538 q540 qs2 q94 ⟨(Nat.le_of_ble_eq_true rfl), (Nat.le_of_ble_eq_true rfl)⟩ rfl hl.1 rfl (Nat.le_of_ble_eq_true rfl) dX0_row_69 ⟨(Nat.le_of_ble_eq_true rfl), (Nat.le_of_ble_eq_true rfl)⟩) (fun r28 C27 H locs hs9 hI => ?_)
          replace hs := hs9
          exact vx_ret (x_reti X hK hI hs (Nat.le_of_ble_eq_true rfl) (Nat.le_of_ble_eq_true rfl) dX0_row_72)
        · replace hs := hs9
          refine lv_iload_n hx hb dX0_row_35 rfl (lv_at hl 2 rfl) ?_
          refine lv_sipush (v := 160) hx hb dX0_row_36 (by decide) ?_
          obtain ⟨k47_9, hk47_9, hs⟩ := jn_ex hs
          have Ek47_9 : ∀ (v9 : Int32) (H : Heap) (locs : List Loc) (ls : Array Slot), k47_9 v9 → xI D dT A s.heap C8 H locs → lv_has ls 5 [(0, .ref a0), (2, .int a2), (3, .int a3), (4, .ref ad2)] → W p l e (xRm 13 10322 10 1206) s m args below meth c H locs 6 1031 (vx_MQ below (xQi D dT K A) (xXC D dT xE0 A) args s 10 1206 A) (F0 m 47 ls [.int v9]) := by
            intro v9 H locs ls hs hI hl
            rw [hk47_9] at hs
            refine lv_bipush (v := (-7)) hx hb dX0_row_47 (by decide) ?_
            refine xT_gov hA hI (x_runST (As := [.int v9, .int (-7)]) (rest := []) X hK hA hG hI (xet_X0_need l hl0 v9 (-7) _ _ _ hs) iX0_need q469 q470 q94 ⟨(Nat.le_of_ble_eq_true rfl), (Nat.le_of_ble_eq_true rfl)⟩ rfl hl.1 rfl (Nat.le_of_ble_eq_true rfl) dX0_row_49 ⟨(Nat.le_of_ble_eq_true rfl), (Nat.le_of_ble_eq_true rfl)⟩) (fun En ce ad19 C20 H locs hs9 hI hce hvm hcl => ?_) (fun C10 H locs hs9 hI => ?_)
            · obtain ⟨rfl, hs0⟩ := hs9
              replace hs := hs0
              refine x_catch (k := 0) (a1 := 0) (a2 := 63) (a3 := 64) (a4 := 21) X hG hT rfl (x_cov rfl) rfl (by decide) q363 (by decide) hce hvm hcl ?_
              refine lv_astore (lv' := [(4, .ref ad19), (0, .ref a0), (2, .int a2), (3, .int a3)]) hx hb dX0_row_64 hl (by decide) rfl (fun ls hl => ?_)
              refine lv_aload_n hx hb dX0_row_66 rfl (lv_at hl 1 rfl) ?_
              refine lv_aload hx hb dX0_row_67 (lv_at hl 0 rfl) ?_
              obtain ⟨h22, hs⟩ := hs
              obtain ⟨fh22, h22⟩ := xcl_spec h22
              refine x_goi hA hI (x_runV (As := [.ref ad19]) (rest := []) X hK hA hG hI h22 (q := (RX0, TX0, 10)) rfl rfl (xet_X0_refused l a0 ad19 _ _ hs) iX0_refused q538 q540 qs2 q94 ⟨(Nat.le_of_ble_eq_true rfl), (Nat.le_of_ble_eq_true rfl)⟩ rfl hl.1 rfl (Nat.le_of_ble_eq_true rfl) dX0_row_69 ⟨(Nat.le_of_ble_eq_true rfl), (Nat.le_of_ble_eq_true rfl)⟩) (fun r22 C21 H locs hs9 hI => ?_)
              replace hs := hs9
              exact vx_ret (x_reti X hK hI hs (Nat.le_of_ble_eq_true rfl) (Nat.le_of_ble_eq_true rfl) dX0_row_72)
            · replace hs := hs9
              refine lv_aload hx hb dX0_row_52 (lv_at hl 3 rfl) ?_
              refine lv_iload_n hx hb dX0_row_54 rfl (lv_at hl 1 rfl) ?_
              refine lv_iload_n hx hb dX0_row_55 rfl (lv_at hl 2 rfl) ?_
              refine xT_gor hA hI (x_runSTW (As := [.int a2, .int a3]) (rest := [.ref ad2]) X hK hA hG hI (xet_X0_newRow l hl0 a2 a3 _ _ _ hs) iX0_newRow q476 q477 q94 ⟨(Nat.le_of_ble_eq_true rfl), (Nat.le_of_ble_eq_true rfl)⟩ rfl hl.1 rfl (Nat.le_of_ble_eq_true rfl) dX0_row_56 ⟨(Nat.le_of_ble_eq_true rfl), (Nat.le_of_ble_eq_true rfl)⟩) (fun En ce ad14 C15 H locs hs9 hI hce hvm hcl => ?_) (fun ad12 C11 H locs hs9 hI => ?_)
              · obtain ⟨rfl, hs0⟩ := hs9
                replace hs := hs0
                refine x_catch (k := 0) (a1 := 0) (a2 := 63) (a3 := 64) (a4 := 21) X hG hT rfl (x_cov rfl) rfl (by decide) q363 (by decide) hce hvm hcl ?_
                refine lv_astore (lv' := [(4, .ref ad14), (0, .ref a0), (2, .int a2), (3, .int a3)]) hx hb dX0_row_64 hl (by decide) rfl (fun ls hl => ?_)
                refine lv_aload_n hx hb dX0_row_66 rfl (lv_at hl 1 rfl) ?_
                refine lv_aload hx hb dX0_row_67 (lv_at hl 0 rfl) ?_
                obtain ⟨h17, hs⟩ := hs
                obtain ⟨fh17, h17⟩ := xcl_spec h17
                refine x_goi hA hI (x_runV (As := [.ref ad14]) (rest := []) X hK hA hG hI h17 (q := (RX0, TX0, 10)) rfl rfl (xet_X0_refused l a0 ad14 _ _ hs) iX0_refused q538 q540 qs2 q94 ⟨(Nat.le_of_ble_eq_true rfl), (Nat.le_of_ble_eq_true rfl)⟩ rfl hl.1 rfl (Nat.le_of_ble_eq_true rfl) dX0_row_69 ⟨(Nat.le_of_ble_eq_true rfl), (Nat.le_of_ble_eq_true rfl)⟩) (fun r17 C16 H locs hs9 hI => ?_)
                replace hs := hs9
                exact vx_ret (x_reti X hK hI hs (Nat.le_of_ble_eq_true rfl) (Nat.le_of_ble_eq_true rfl) dX0_row_72)
              · replace hs := hs9
                obtain ⟨C13, eC13, hs⟩ := hs
                refine x_put X hK hI 5 0 rfl in_X5 tyX5 tyX5_ok nmX5 rfl q324 rfl rfl rfl rfl eC13 dX0_row_59 (fun H locs hI => ?_)
                refine lv_iconst (v := 1) hx hb dX0_row_62 (by decide) ?_
                exact vx_ret (x_reti X hK hI hs (Nat.le_of_ble_eq_true rfl) (Nat.le_of_ble_eq_true rfl) dX0_row_63)
          refine lv_icmp_gt (tgt := 46) hx hb dX0_row_39 (by decide) (fun c23 => ?_) (fun c23 => ?_)
          · replace hs := ifp c23 hs
            refine lv_iconst (v := 0) hx hb dX0_row_46 (by decide) ?_
            exact Ek47_9 _ _ _ _ hs hI hl
          · replace hs := ifn c23 hs
            refine lv_iconst (v := 1) hx hb dX0_row_42 (by decide) ?_
            refine lv_goto (tgt := 47) hx hb dX0_row_43 (by decide) ?_
            exact Ek47_9 _ _ _ _ hs hI hl
    refine lv_if_lt (tgt := 15) hx hb dX0_row_8 (by decide) (fun c34 => ?_) (fun c34 => ?_)
    · replace hs := ifp c34 hs
      refine lv_iconst (v := 0) hx hb dX0_row_15 (by decide) ?_
      exact Ek16_4 _ _ _ _ hs hI (lv_sub hl [1, 3, 4, 0] rfl)
    · replace hs := ifn c34 hs
      refine lv_iconst (v := 1) hx hb dX0_row_11 (by decide) ?_
      refine lv_goto (tgt := 16) hx hb dX0_row_12 (by decide) ?_
      exact Ek16_4 _ _ _ _ hs hI (lv_sub hl [1, 3, 4, 0] rfl)
def x_X5_row (a0 : Nat) (C : XH) (K : Nat → XH → Prop) (E : Nat → XH → Prop) : Prop := obd (xgo C (xis 5) a0 0) (fun o1 => xcastT C [9, 10, 11, 12] o1 (jn (fun (v7 : Int32) => x_X0_need v7 (-3) C (fun C8 => obd o1 (fun ad9 => K ad9 C8)) (fun ad10 C11 => E ad10 C11)) (fun k17_7 => xopt o1 (k17_7 0) (fun ad12 => k17_7 1))) (fun ad2 => xnew C (.inr (7, [.null, .null, .null, .null, .null, .int 0, .int 0])) (fun ad3 C4 => x_X7_init ad3 (-2) C4 (fun C5 => (xcl C5 ad3 = some 7 ∧ E ad3 C5)))))
theorem iX5_row : xInfW yX5_row cX5_row 2 (some (.object RX8)) [(0, 23, 24, 21)] 0 := ⟨q549, by decide +kernel⟩
set_option maxHeartbeats 4000000 in
theorem xet_X5_row (l : Launch) (hl0 : l.stackTraces = false) (a0 : Nat) (C : XH) (K : Nat → XH → Prop) (E : Nat → XH → Prop) (hs : x_X5_row a0 C K E) : xMetX l yX5_row (wsW_ yX5_row cX5_row 2 (some (.object RX8)) [(0, 23, 24, 21)]) 12 10300 5 1024 C [.ref a0] (fun D dT A => xQr D dT K A) (xEK RX7 E) := by
  intro D dT adK adV sz
  refine xEnterW (own := RX5) (Qc := xQr D dT K) (XC := xXC D dT (xEK RX7 E)) (by decide) rfl (by rfl) ?_
  intro p e s m args below meth c A ls X hnm hK hA hG hT hI hl
  have hx := X.1
  have hb := X.2.1
  have hts := X.2.2.2.2.1
  have hown := X.2.2.2.2.2.1
  have hl : lv_has ls 2 [(0, .ref a0)] := hl
  unfold x_X5_row at hs
  refine lv_aload_n hx hb dX5_row_0 rfl (lv_at hl 0 rfl) ?_
  obtain ⟨o1, eo1, hs⟩ := hs
  refine x_get (v := va_rf o1) X hK hI 5 0 rfl in_X5 rfl q323 rfl (xgo_spec eo1) dX5_row_1 ?_
  refine x_castT (Tn := RX8) (good := [9, 10, 11, 12]) X hK hG hI (by decide +kernel) (by decide +kernel) (by decide +kernel) q564 hs hl0 hl.1 (Nat.le_of_ble_eq_true rfl) (Nat.le_of_ble_eq_true rfl) (Nat.le_of_ble_eq_true rfl) (Nat.le_of_ble_eq_true rfl) dX5_row_4 (fun ce ad2 H hs9 hI hce hvm hcl => ?_) (fun hs9 => ?_)
  · replace hs := hs9
    refine x_catch (k := 0) (a1 := 0) (a2 := 23) (a3 := 24) (a4 := 21) X hG hT rfl (x_cov rfl) rfl (by decide) q550 (by decide) hce hvm hcl ?_
    refine lv_astore_n (lv' := [(1, .ref ad2), (0, .ref a0)]) hx hb dX5_row_24 rfl hl (by decide) rfl (fun ls hl => ?_)
    refine x_new X hK hI hA 7 (fs := [.null, .null, .null, .null, .null, .int 0, .int 0]) rfl in_X7 tyX7 tyX7_ok q566 q446 q107 rfl (Nat.le_of_ble_eq_true rfl) (Nat.le_of_ble_eq_true rfl) hs dX5_row_25 (fun ad3 C4 H hs9 hI => ?_)
    replace hs := hs9
    refine lv_dup hx hb dX5_row_28 rfl ?_
    refine lv_bipush (v := (-2)) hx hb dX5_row_29 (by decide) ?_
    refine x_gov hA hI (x_runI (As := [.int (-2)]) (rest := [.ref ad3]) X hK hA hG hI (xet_X7_init l ad3 (-2) _ _ hs) iX7_init rfl q567 q455 q107 ⟨(Nat.le_of_ble_eq_true rfl), (Nat.le_of_ble_eq_true rfl)⟩ rfl hl.1 rfl (Nat.le_of_ble_eq_true rfl) dX5_row_31 ⟨(Nat.le_of_ble_eq_true rfl), (Nat.le_of_ble_eq_true rfl)⟩) (fun C5 H locs hs9 hI => ?_)
    replace hs := hs9
    obtain ⟨hf5, hs⟩ := hs
    obtain ⟨f5, hf5⟩ := xcl_spec hf5
    obtain ⟨ce, hce, hvm, hcl⟩ := x_thrown hK hI hf5 rfl
    refine vx_athrow hx hb dX5_row_34 ?_
    exact x_pass X hK hT rfl hI hce hvm hcl ⟨rfl, hs⟩ (Nat.le_of_ble_eq_true rfl) (Nat.le_of_ble_eq_true rfl)
  · replace hs := hs9
    refine x_astoreo_n (lv' := [(1, va_rf o1), (0, .ref a0)]) hx hb dX5_row_7 rfl hl (by decide) rfl (fun ls hl => ?_)
    refine x_aloado_n hx hb dX5_row_8 rfl (lv_at hl 0 rfl) ?_
    obtain ⟨k17_7, hk17_7, hs⟩ := jn_ex hs
    have Ek17_7 : ∀ (v7 : Int32) (H : Heap) (locs : List Loc) (ls : Array Slot), k17_7 v7 → xI D dT A s.heap C H locs → lv_has ls 2 [(1, va_rf o1)] → W p l e (xRm 12 10300 5 1024) s m args below meth c H locs 3 1010 (vx_MQ below (xQr D dT K A) (xXC D dT (xEK RX7 E) A) args s 5 1024 A) (F0 m 17 ls [.int v7]) := by
      intro v7 H locs ls hs hI hl
      rw [hk17_7] at hs
      refine lv_bipush (v := (-3)) hx hb dX5_row_17 (by decide) ?_
      refine xT_gov hA hI (x_runST (As := [.int v7, .int (-3)]) (rest := []) X hK hA hG hI (xet_X0_need l hl0 v7 (-3) _ _ _ hs) iX0_need q565 q470 q94 ⟨(Nat.le_of_ble_eq_true rfl), (Nat.le_of_ble_eq_true rfl)⟩ rfl hl.1 rfl (Nat.le_of_ble_eq_true rfl) dX5_row_19 ⟨(Nat.le_of_ble_eq_true rfl), (Nat.le_of_ble_eq_true rfl)⟩) (fun En ce ad10 C11 H locs hs9 hI hce hvm hcl => ?_) (fun C8 H locs hs9 hI => ?_)
      · obtain ⟨rfl, hs0⟩ := hs9
        replace hs := hs0
        exact x_pass2 X hK hG hT (by intro z hz; have hz : z ∈ tableOf [(0, 23, 24, 21)] := hz; simp only [tableOf, List.map_cons, List.map_nil, List.mem_cons, List.not_mem_nil, or_false] at hz; rcases hz with rfl; exact Or.inr ⟨by decide, RJ7, q550, by decide⟩) hI hce hvm hcl ⟨rfl, hs⟩ (Nat.le_of_ble_eq_true rfl) (Nat.le_of_ble_eq_true rfl)
      · replace hs := hs9
        refine x_aloado_n hx hb dX5_row_22 rfl (lv_at hl 0 rfl) ?_
        obtain ⟨ad9, ead9, hzad9⟩ := hs
        have hlad9 := hl
        cases ead9
        have hs := hzad9
        have hl := hlad9
        exact vx_ret (x_retr X hK hI hs (Nat.le_of_ble_eq_true rfl) (Nat.le_of_ble_eq_true rfl) dX5_row_23)
    obtain ⟨nad12, rad12⟩ := hs
    have hlad12 := hl
    rcases o1 with _ | ad12
    · have hs := nad12 rfl
      have hl := hlad12
      refine lv_ifnullN (tgt := 16) hx hb dX5_row_9 (by decide) ?_
      refine lv_iconst (v := 0) hx hb dX5_row_16 (by decide) ?_
      exact W.widen (Nat.le_of_ble_eq_true rfl) (Nat.le_of_ble_eq_true rfl) (Ek17_7 _ _ _ _ hs hI (lv_sub hl [0] rfl))
    · have hs := rad12 ad12 rfl
      have hl := hlad12
      refine lv_ifnull hx hb dX5_row_9 ?_
      refine lv_iconst (v := 1) hx hb dX5_row_12 (by decide) ?_
      refine lv_goto (tgt := 17) hx hb dX5_row_13 (by decide) ?_
      exact W.widen (Nat.le_of_ble_eq_true rfl) (Nat.le_of_ble_eq_true rfl) (Ek17_7 _ _ _ _ hs hI (lv_sub hl [0] rfl))
def x_X9_putT (a0 : Nat) (a1 : Int32) (a2 : Int64) (C : XH) (K : XH → Prop) (E : Nat → XH → Prop) : Prop := obd (xgr C (xis 9) a0 0) (fun ad1 => xsiT C 2 ad1 a1 ((((a2 : Int64).toInt32) : Int32).toInt8.toInt32) (fun C3 => K C3) (fun ad2 => E ad2 C))
theorem iX9_putT : xInf yX9_put cX9_put 4 none 2 := ⟨q573, by decide +kernel⟩
set_option maxHeartbeats 4000000 in
theorem xet_X9_putT (l : Launch) (hl0 : l.stackTraces = false) (a0 : Nat) (a1 : Int32) (a2 : Int64) (C : XH) (K : XH → Prop) (E : Nat → XH → Prop) (hs : x_X9_putT a0 a1 a2 C K E) : xMetX l yX9_put (ws_ yX9_put cX9_put 4 none) 12 10300 3 1010 C [.ref a0, .int a1, .long a2] (fun D dT A => xQv D dT K A) (xEK "java/lang/ArrayIndexOutOfBoundsException" E) := by
  intro D dT adK adV sz
  refine xEnterT (own := RX9) (Qc := xQv D dT K) (XC := xXC D dT (xEK "java/lang/ArrayIndexOutOfBoundsException" E)) (by decide) rfl (by rfl) ?_
  intro p e s m args below meth c A ls X hnm hK hA hG hT hI hl
  have hx := X.1
  have hb := X.2.1
  have hts := X.2.2.2.2.1
  have hown := X.2.2.2.2.2.1
  have hl : lv_has ls 4 [(0, .ref a0), (1, .int a1), (2, .long a2)] := hl
  unfold x_X9_putT at hs
  refine lv_aload_n hx hb dX9_put_0 rfl (lv_at hl 0 rfl) ?_
  obtain ⟨ad1, ead1, hs⟩ := hs
  refine x_get (v := .ref ad1) X hK hI 9 0 rfl in_X9 rfl q502 rfl (xgr_spec ead1) dX9_put_1 ?_
  refine lv_iload_n hx hb dX9_put_4 rfl (lv_at hl 1 rfl) ?_
  refine lv_lload_n hx hb dX9_put_5 rfl (lv_at hl 2 rfl) ?_
  refine lv_l2i (v := ((a2 : Int64).toInt32)) hx hb dX9_put_6 rfl ?_
  refine lv_i2b (v := ((((a2 : Int64).toInt32) : Int32).toInt8.toInt32)) hx hb dX9_put_7 rfl ?_
  refine x_bastT X hK hG hI hs hl0 hl.1 (Nat.le_of_ble_eq_true rfl) (Nat.le_of_ble_eq_true rfl) (Nat.le_of_ble_eq_true rfl) (Nat.le_of_ble_eq_true rfl) dX9_put_8 (fun ce ad2 H hs9 hI hce hvm hcl => ?_) (fun C3 H locs hs9 hI => ?_)
  · replace hs := hs9
    exact x_pass X hK hT rfl hI hce hvm hcl ⟨rfl, hs⟩ (Nat.le_of_ble_eq_true rfl) (Nat.le_of_ble_eq_true rfl)
  · replace hs := hs9
    exact vx_ret (x_retv X hK hI hs (Nat.le_of_ble_eq_true rfl) (Nat.le_of_ble_eq_true rfl) dX9_put_9)
def x_X11_putT (a0 : Nat) (a1 : Int32) (a2 : Int64) (C : XH) (K : XH → Prop) (E : Nat → XH → Prop) : Prop := obd (xgr C (xis 11) a0 0) (fun ad1 => xsiT C 0 ad1 a1 ((a2 : Int64).toInt32) (fun C3 => K C3) (fun ad2 => E ad2 C))
theorem iX11_putT : xInf yX11_put cX11_put 4 none 2 := ⟨q576, by decide +kernel⟩
set_option maxHeartbeats 4000000 in
theorem xet_X11_putT (l : Launch) (hl0 : l.stackTraces = false) (a0 : Nat) (a1 : Int32) (a2 : Int64) (C : XH) (K : XH → Prop) (E : Nat → XH → Prop) (hs : x_X11_putT a0 a1 a2 C K E) : xMetX l yX11_put (ws_ yX11_put cX11_put 4 none) 12 10300 3 1010 C [.ref a0, .int a1, .long a2] (fun D dT A => xQv D dT K A) (xEK "java/lang/ArrayIndexOutOfBoundsException" E) := by
  intro D dT adK adV sz
  refine xEnterT (own := RX11) (Qc := xQv D dT K) (XC := xXC D dT (xEK "java/lang/ArrayIndexOutOfBoundsException" E)) (by decide) rfl (by rfl) ?_
  intro p e s m args below meth c A ls X hnm hK hA hG hT hI hl
  have hx := X.1
  have hb := X.2.1
  have hts := X.2.2.2.2.1
  have hown := X.2.2.2.2.2.1
  have hl : lv_has ls 4 [(0, .ref a0), (1, .int a1), (2, .long a2)] := hl
  unfold x_X11_putT at hs
  refine lv_aload_n hx hb dX11_put_0 rfl (lv_at hl 0 rfl) ?_
  obtain ⟨ad1, ead1, hs⟩ := hs
  refine x_get (v := .ref ad1) X hK hI 11 0 rfl in_X11 rfl q523 rfl (xgr_spec ead1) dX11_put_1 ?_
  refine lv_iload_n hx hb dX11_put_4 rfl (lv_at hl 1 rfl) ?_
  refine lv_lload_n hx hb dX11_put_5 rfl (lv_at hl 2 rfl) ?_
  refine lv_l2i (v := ((a2 : Int64).toInt32)) hx hb dX11_put_6 rfl ?_
  refine x_iastT X hK hG hI hs hl0 hl.1 (Nat.le_of_ble_eq_true rfl) (Nat.le_of_ble_eq_true rfl) (Nat.le_of_ble_eq_true rfl) (Nat.le_of_ble_eq_true rfl) dX11_put_7 (fun ce ad2 H hs9 hI hce hvm hcl => ?_) (fun C3 H locs hs9 hI => ?_)
  · replace hs := hs9
    exact x_pass X hK hT rfl hI hce hvm hcl ⟨rfl, hs⟩ (Nat.le_of_ble_eq_true rfl) (Nat.le_of_ble_eq_true rfl)
  · replace hs := hs9
    exact vx_ret (x_retv X hK hI hs (Nat.le_of_ble_eq_true rfl) (Nat.le_of_ble_eq_true rfl) dX11_put_8)
def x_X12_putT (a0 : Nat) (a1 : Int32) (a2 : Int64) (C : XH) (K : XH → Prop) (E : Nat → XH → Prop) : Prop := obd (xgr C (xis 12) a0 0) (fun ad1 => xslT C ad1 a1 a2 (fun C3 => K C3) (fun ad2 => E ad2 C))
theorem iX12_putT : xInf yX12_put cX12_put 4 none 2 := ⟨q579, by decide +kernel⟩
set_option maxHeartbeats 4000000 in
theorem xet_X12_putT (l : Launch) (hl0 : l.stackTraces = false) (a0 : Nat) (a1 : Int32) (a2 : Int64) (C : XH) (K : XH → Prop) (E : Nat → XH → Prop) (hs : x_X12_putT a0 a1 a2 C K E) : xMetX l yX12_put (ws_ yX12_put cX12_put 4 none) 12 10300 3 1010 C [.ref a0, .int a1, .long a2] (fun D dT A => xQv D dT K A) (xEK "java/lang/ArrayIndexOutOfBoundsException" E) := by
  intro D dT adK adV sz
  refine xEnterT (own := RX12) (Qc := xQv D dT K) (XC := xXC D dT (xEK "java/lang/ArrayIndexOutOfBoundsException" E)) (by decide) rfl (by rfl) ?_
  intro p e s m args below meth c A ls X hnm hK hA hG hT hI hl
  have hx := X.1
  have hb := X.2.1
  have hts := X.2.2.2.2.1
  have hown := X.2.2.2.2.2.1
  have hl : lv_has ls 4 [(0, .ref a0), (1, .int a1), (2, .long a2)] := hl
  unfold x_X12_putT at hs
  refine lv_aload_n hx hb dX12_put_0 rfl (lv_at hl 0 rfl) ?_
  obtain ⟨ad1, ead1, hs⟩ := hs
  refine x_get (v := .ref ad1) X hK hI 12 0 rfl in_X12 rfl q533 rfl (xgr_spec ead1) dX12_put_1 ?_
  refine lv_iload_n hx hb dX12_put_4 rfl (lv_at hl 1 rfl) ?_
  refine lv_lload_n hx hb dX12_put_5 rfl (lv_at hl 2 rfl) ?_
  refine x_lastT X hK hG hI hs hl0 hl.1 (Nat.le_of_ble_eq_true rfl) (Nat.le_of_ble_eq_true rfl) (Nat.le_of_ble_eq_true rfl) (Nat.le_of_ble_eq_true rfl) dX12_put_6 (fun ce ad2 H hs9 hI hce hvm hcl => ?_) (fun C3 H locs hs9 hI => ?_)
  · replace hs := hs9
    exact x_pass X hK hT rfl hI hce hvm hcl ⟨rfl, hs⟩ (Nat.le_of_ble_eq_true rfl) (Nat.le_of_ble_eq_true rfl)
  · replace hs := hs9
    exact vx_ret (x_retv X hK hI hs (Nat.le_of_ble_eq_true rfl) (Nat.le_of_ble_eq_true rfl) dX12_put_7)
def x_X10_putT (a0 : Nat) (a1 : Int32) (a2 : Int64) (C : XH) (K : XH → Prop) (E : Nat → XH → Prop) : Prop := obd (xgr C (xis 10) a0 0) (fun ad1 => xsiT C 3 ad1 a1 ((((a2 : Int64).toInt32) : Int32).toInt16.toInt32) (fun C3 => K C3) (fun ad2 => E ad2 C))
theorem iX10_putT : xInf yX10_put cX10_put 4 none 2 := ⟨q582, by decide +kernel⟩
set_option maxHeartbeats 4000000 in
theorem xet_X10_putT (l : Launch) (hl0 : l.stackTraces = false) (a0 : Nat) (a1 : Int32) (a2 : Int64) (C : XH) (K : XH → Prop) (E : Nat → XH → Prop) (hs : x_X10_putT a0 a1 a2 C K E) : xMetX l yX10_put (ws_ yX10_put cX10_put 4 none) 12 10300 3 1010 C [.ref a0, .int a1, .long a2] (fun D dT A => xQv D dT K A) (xEK "java/lang/ArrayIndexOutOfBoundsException" E) := by
  intro D dT adK adV sz
  refine xEnterT (own := RX10) (Qc := xQv D dT K) (XC := xXC D dT (xEK "java/lang/ArrayIndexOutOfBoundsException" E)) (by decide) rfl (by rfl) ?_
  intro p e s m args below meth c A ls X hnm hK hA hG hT hI hl
  have hx := X.1
  have hb := X.2.1
  have hts := X.2.2.2.2.1
  have hown := X.2.2.2.2.2.1
  have hl : lv_has ls 4 [(0, .ref a0), (1, .int a1), (2, .long a2)] := hl
  unfold x_X10_putT at hs
  refine lv_aload_n hx hb dX10_put_0 rfl (lv_at hl 0 rfl) ?_
  obtain ⟨ad1, ead1, hs⟩ := hs
  refine x_get (v := .ref ad1) X hK hI 10 0 rfl in_X10 rfl q512 rfl (xgr_spec ead1) dX10_put_1 ?_
  refine lv_iload_n hx hb dX10_put_4 rfl (lv_at hl 1 rfl) ?_
  refine lv_lload_n hx hb dX10_put_5 rfl (lv_at hl 2 rfl) ?_
  refine lv_l2i (v := ((a2 : Int64).toInt32)) hx hb dX10_put_6 rfl ?_
  refine lv_i2s (v := ((((a2 : Int64).toInt32) : Int32).toInt16.toInt32)) hx hb dX10_put_7 rfl ?_
  refine x_sastT X hK hG hI hs hl0 hl.1 (Nat.le_of_ble_eq_true rfl) (Nat.le_of_ble_eq_true rfl) (Nat.le_of_ble_eq_true rfl) (Nat.le_of_ble_eq_true rfl) dX10_put_8 (fun ce ad2 H hs9 hI hce hvm hcl => ?_) (fun C3 H locs hs9 hI => ?_)
  · replace hs := hs9
    exact x_pass X hK hT rfl hI hce hvm hcl ⟨rfl, hs⟩ (Nat.le_of_ble_eq_true rfl) (Nat.le_of_ble_eq_true rfl)
  · replace hs := hs9
    exact vx_ret (x_retv X hK hI hs (Nat.le_of_ble_eq_true rfl) (Nat.le_of_ble_eq_true rfl) dX10_put_9)
def vd_X8_putT (b : Nat) (a1 : Int32) (a2 : Int64) (C : XH) (K : XH → Prop) (E : Nat → XH → Prop) : Prop := obd (xcl C b) (fun ci => if ci = 9 then x_X9_putT b a1 a2 C K E else if ci = 10 then x_X10_putT b a1 a2 C K E else if ci = 11 then x_X11_putT b a1 a2 C K E else if ci = 12 then x_X12_putT b a1 a2 C K E else False)
theorem vdc_X8_putT {p : Program} {l : Launch} {e : Env} {R : Room} {s : State} {m : MethodId} {args : Array Value} {below : List Frame} {meth : Method} {c : Code} {H : Heap} {locs : List Loc} {cells slots : Nat} {own : String} {cc : ByteArray} {nL : Nat} {ret : Option FieldType} {pc : Nat} {ls : Array Slot} {rest : List Value} {D : va_G} {dT : Nat → ClassId} {adK adV : Nat → Nat} {A : Nat → Prop} {C : XH} {index : Nat} (X : xX p s m args meth c own cc nL ret) (hK : va_K D aCl (aT dT) s) (hA : ∀ q : Nat, s.heap.size ≤ q → A q) (hG : xG adK adV A s s.heap) (hI : xI D dT A s.heap C H locs) (hl0 : l.stackTraces = false) (b : Nat) (a1 : Int32) (a2 : Int64) (K : XH → Prop) (E : Nat → XH → Prop) (hs : vd_X8_putT b a1 a2 C K E) (w1 : Cond.methodLink own index ⟨RX8, "put", "(IJ)V"⟩ ∈ lw_all) (hR : 12 + 1 ≤ R.frames ∧ 8 + (0 + 11) + 10304 ≤ R.locals) (hsz : ls.size = nL) (hrm : (rest.map fun v => v.category).sum ≤ 8) (hdg : decode cc pc = .ok (.invokevirtual index, 3)) (hf : cells + 3 ≤ R.cells ∧ slots + 1010 ≤ R.slots) : xCtxX p l e R s m args below meth c H locs cells slots 3 1010 D dT C pc ls ([.long a2, .int a1] ++ .ref b :: rest) rest (fun D dT A => xQv D dT K A) (xEK "java/lang/ArrayIndexOutOfBoundsException" E) (.ref b :: [.int a1, .long a2]) := by
  obtain ⟨ci, hci, hs⟩ := hs
  obtain ⟨fs, hb⟩ := xcl_spec hci
  by_cases h9 : ci = 9
  · subst h9
    replace hs := ifp rfl hs
    exact x_runAT (As := [.int a1, .long a2]) X hK hA hG hI hb (q := (RX9, TX9, 1)) rfl (xet_X9_putT l hl0 b a1 a2 _ _ _ hs) iX9_putT RX8 w1 q570 (by decide) q571 q572 q110 (by decide +kernel) ⟨Nat.le_trans (Nat.le_of_ble_eq_true rfl) hR.1, Nat.le_trans (Nat.le_of_ble_eq_true rfl) hR.2⟩ rfl hsz rfl hrm hdg hf
  · replace hs := ifn h9 hs
    by_cases h10 : ci = 10
    · subst h10
      replace hs := ifp rfl hs
      exact x_runAT (As := [.int a1, .long a2]) X hK hA hG hI hb (q := (RX10, TX10, 1)) rfl (xet_X10_putT l hl0 b a1 a2 _ _ _ hs) iX10_putT RX8 w1 q570 (by decide) q580 q581 q111 (by decide +kernel) ⟨Nat.le_trans (Nat.le_of_ble_eq_true rfl) hR.1, Nat.le_trans (Nat.le_of_ble_eq_true rfl) hR.2⟩ rfl hsz rfl hrm hdg hf
    · replace hs := ifn h10 hs
      by_cases h11 : ci = 11
      · subst h11
        replace hs := ifp rfl hs
        exact x_runAT (As := [.int a1, .long a2]) X hK hA hG hI hb (q := (RX11, TX11, 1)) rfl (xet_X11_putT l hl0 b a1 a2 _ _ _ hs) iX11_putT RX8 w1 q570 (by decide) q574 q575 q112 (by decide +kernel) ⟨Nat.le_trans (Nat.le_of_ble_eq_true rfl) hR.1, Nat.le_trans (Nat.le_of_ble_eq_true rfl) hR.2⟩ rfl hsz rfl hrm hdg hf
      · replace hs := ifn h11 hs
        by_cases h12 : ci = 12
        · subst h12
          replace hs := ifp rfl hs
          exact x_runAT (As := [.int a1, .long a2]) X hK hA hG hI hb (q := (RX12, TX12, 1)) rfl (xet_X12_putT l hl0 b a1 a2 _ _ _ hs) iX12_putT RX8 w1 q570 (by decide) q577 q578 q113 (by decide +kernel) ⟨Nat.le_trans (Nat.le_of_ble_eq_true rfl) hR.1, Nat.le_trans (Nat.le_of_ble_eq_true rfl) hR.2⟩ rfl hsz rfl hrm hdg hf
        · replace hs := ifn h12 hs
          exact hs.elim
def x_X0_set (a0 : Nat) (a1 : Int32) (a2 : Int32) (a3 : Int64) (C : XH) (K : Int32 → XH → Prop) : Prop := (xcl C a0 = some 0 ∧ x_X0_shelf a0 a1 C (fun ad2 C1 => (xcl C1 ad2 = some 5 ∧ x_X5_row ad2 C1 (fun ad5 C4 => vd_X8_putT ad5 a2 a3 C4 (fun C7 => K 1 C7) (fun ad8 C9 => xnew C9 (.inr (7, [.null, .null, .null, .null, .null, .int 0, .int 0])) (fun ad10 C11 => x_X7_init ad10 (-5) C11 (fun C12 => (xcl C12 ad10 = some 7 ∧ (xcl C12 a0 = some 0 ∧ x_X0_refused a0 ad10 C12 (fun r15 C14 => K r15 C14))))))) (fun ad17 C18 => (xcl C18 a0 = some 0 ∧ x_X0_refused a0 ad17 C18 (fun r20 C19 => K r20 C19))))) (fun ad22 C23 => (xcl C23 a0 = some 0 ∧ x_X0_refused a0 ad22 C23 (fun r25 C24 => K r25 C24))))
theorem iX0_set : xInfW yX0_set cX0_set 7 (some .int) [(10, 17, 20, 110), (0, 33, 34, 21)] 3 := ⟨q545, by decide +kernel⟩
set_option maxHeartbeats 4000000 in
theorem xet_X0_set (l : Launch) (hl0 : l.stackTraces = false) (a0 : Nat) (a1 : Int32) (a2 : Int32) (a3 : Int64) (C : XH) (K : Int32 → XH → Prop) (hs : x_X0_set a0 a1 a2 a3 C K) : xMetX l yX0_set (wsW_ yX0_set cX0_set 7 (some .int) [(10, 17, 20, 110), (0, 33, 34, 21)]) 13 10323 13 3058 C [.ref a0, .int a1, .int a2, .long a3] (fun D dT A => xQi D dT K A) xE0 := by
  intro D dT adK adV sz
  refine xEnterW (own := RX0) (Qc := xQi D dT K) (XC := xXC D dT xE0) (by decide) rfl (by rfl) ?_
  intro p e s m args below meth c A ls X hnm hK hA hG hT hI hl
  have hx := X.1
  have hb := X.2.1
  have hts := X.2.2.2.2.1
  have hown := X.2.2.2.2.2.1
  have hl : lv_has ls 7 [(0, .ref a0), (1, .int a1), (2, .int a2), (3, .long a3)] := hl
  unfold x_X0_set at hs
  refine lv_aload_n hx hb dX0_set_0 rfl (lv_at hl 0 rfl) ?_
  refine lv_iload_n hx hb dX0_set_1 rfl (lv_at hl 1 rfl) ?_
  obtain ⟨h2, hs⟩ := hs
  obtain ⟨fh2, h2⟩ := xcl_spec h2
  refine xT_gor hA hI (x_runVTW (As := [.int a1]) (rest := []) X hK hA hG hI h2 (q := (RX0, TX0, 10)) rfl rfl (xet_X0_shelf l hl0 a0 a1 _ _ _ hs) iX0_shelf q364 q366 qs0 q94 ⟨(Nat.le_of_ble_eq_true rfl), (Nat.le_of_ble_eq_true rfl)⟩ rfl hl.1 rfl (Nat.le_of_ble_eq_true rfl) dX0_set_2 ⟨(Nat.le_of_ble_eq_true rfl), (Nat.le_of_ble_eq_true rfl)⟩) (fun En ce ad22 C23 H locs hs9 hI hce hvm hcl => ?_) (fun ad2 C1 H locs hs9 hI => ?_)
  · obtain ⟨rfl, hs0⟩ := hs9
    replace hs := hs0
    refine x_catch (k := 1) (a1 := 0) (a2 := 33) (a3 := 34) (a4 := 21) X hG hT rfl (x_cov rfl) rfl (by decide) q363 (by decide) hce hvm hcl ?_
    refine lv_astore (lv' := [(5, .ref ad22), (0, .ref a0), (1, .int a1), (2, .int a2), (3, .long a3)]) hx hb dX0_set_34 hl (by decide) rfl (fun ls hl => ?_)
    refine lv_aload_n hx hb dX0_set_36 rfl (lv_at hl 1 rfl) ?_
    refine lv_aload hx hb dX0_set_37 (lv_at hl 0 rfl) ?_
    obtain ⟨h25, hs⟩ := hs
    obtain ⟨fh25, h25⟩ := xcl_spec h25
    refine x_goi hA hI (x_runV (As := [.ref ad22]) (rest := []) X hK hA hG hI h25 (q := (RX0, TX0, 10)) rfl rfl (xet_X0_refused l a0 ad22 _ _ hs) iX0_refused q538 q540 qs2 q94 ⟨(Nat.le_of_ble_eq_true rfl), (Nat.le_of_ble_eq_true rfl)⟩ rfl hl.1 rfl (Nat.le_of_ble_eq_true rfl) dX0_set_39 ⟨(Nat.le_of_ble_eq_true rfl), (Nat.le_of_ble_eq_true rfl)⟩) (fun r25 C24 H locs hs9 hI => ?_)
    replace hs := hs9
    exact vx_ret (x_reti X hK hI hs (Nat.le_of_ble_eq_true rfl) (Nat.le_of_ble_eq_true rfl) dX0_set_42)
  · replace hs := hs9
    obtain ⟨h5, hs⟩ := hs
    obtain ⟨fh5, h5⟩ := xcl_spec h5
    refine xT_gor hA hI (x_runVTW (As := []) (rest := []) X hK hA hG hI h5 (q := (RX5, TX5, 1)) rfl rfl (xet_X5_row l hl0 ad2 _ _ _ hs) iX5_row q546 q547 q548 q99 ⟨(Nat.le_of_ble_eq_true rfl), (Nat.le_of_ble_eq_true rfl)⟩ rfl hl.1 rfl (Nat.le_of_ble_eq_true rfl) dX0_set_5 ⟨(Nat.le_of_ble_eq_true rfl), (Nat.le_of_ble_eq_true rfl)⟩) (fun En ce ad17 C18 H locs hs9 hI hce hvm hcl => ?_) (fun ad5 C4 H locs hs9 hI => ?_)
    · obtain ⟨rfl, hs0⟩ := hs9
      replace hs := hs0
      refine x_catch (k := 1) (a1 := 0) (a2 := 33) (a3 := 34) (a4 := 21) X hG hT rfl (x_cov rfl) rfl (by decide) q363 (by decide) hce hvm hcl ?_
      refine lv_astore (lv' := [(5, .ref ad17), (0, .ref a0), (1, .int a1), (2, .int a2), (3, .long a3)]) hx hb dX0_set_34 hl (by decide) rfl (fun ls hl => ?_)
      refine lv_aload_n hx hb dX0_set_36 rfl (lv_at hl 1 rfl) ?_
      refine lv_aload hx hb dX0_set_37 (lv_at hl 0 rfl) ?_
      obtain ⟨h20, hs⟩ := hs
      obtain ⟨fh20, h20⟩ := xcl_spec h20
      refine x_goi hA hI (x_runV (As := [.ref ad17]) (rest := []) X hK hA hG hI h20 (q := (RX0, TX0, 10)) rfl rfl (xet_X0_refused l a0 ad17 _ _ hs) iX0_refused q538 q540 qs2 q94 ⟨(Nat.le_of_ble_eq_true rfl), (Nat.le_of_ble_eq_true rfl)⟩ rfl hl.1 rfl (Nat.le_of_ble_eq_true rfl) dX0_set_39 ⟨(Nat.le_of_ble_eq_true rfl), (Nat.le_of_ble_eq_true rfl)⟩) (fun r20 C19 H locs hs9 hI => ?_)
      replace hs := hs9
      exact vx_ret (x_reti X hK hI hs (Nat.le_of_ble_eq_true rfl) (Nat.le_of_ble_eq_true rfl) dX0_set_42)
    · replace hs := hs9
      refine lv_astore (lv' := [(5, .ref ad5), (0, .ref a0), (1, .int a1), (2, .int a2), (3, .long a3)]) hx hb dX0_set_8 hl (by decide) rfl (fun ls hl => ?_)
      refine lv_aload hx hb dX0_set_10 (lv_at hl 0 rfl) ?_
      refine lv_iload_n hx hb dX0_set_12 rfl (lv_at hl 3 rfl) ?_
      refine lv_lload_n hx hb dX0_set_13 rfl (lv_at hl 4 rfl) ?_
      refine xT_gov hA hI (vdc_X8_putT (rest := []) X hK hA hG hI hl0 ad5 a2 a3 _ _ hs q568 ⟨(Nat.le_of_ble_eq_true rfl), (Nat.le_of_ble_eq_true rfl)⟩ hl.1 (Nat.le_of_ble_eq_true rfl) dX0_set_14 ⟨(Nat.le_of_ble_eq_true rfl), (Nat.le_of_ble_eq_true rfl)⟩) (fun En ce ad8 C9 H locs hs9 hI hce hvm hcl => ?_) (fun C7 H locs hs9 hI => ?_)
      · obtain ⟨rfl, hs0⟩ := hs9
        replace hs := hs0
        refine x_catch (k := 0) (a1 := 10) (a2 := 17) (a3 := 20) (a4 := 110) X hG hT rfl (x_cov rfl) rfl (by decide) q368 (by decide) hce hvm hcl ?_
        refine lv_astore (lv' := [(6, .ref ad8), (5, .ref ad5), (0, .ref a0), (1, .int a1), (2, .int a2), (3, .long a3)]) hx hb dX0_set_20 hl (by decide) rfl (fun ls hl => ?_)
        refine x_new X hK hI hA 7 (fs := [.null, .null, .null, .null, .null, .int 0, .int 0]) rfl in_X7 tyX7 tyX7_ok q363 q446 q107 rfl (Nat.le_of_ble_eq_true rfl) (Nat.le_of_ble_eq_true rfl) hs dX0_set_22 (fun ad10 C11 H hs9 hI => ?_)
        replace hs := hs9
        refine lv_dup hx hb dX0_set_25 rfl ?_
        refine lv_bipush (v := (-5)) hx hb dX0_set_26 (by decide) ?_
        refine x_gov hA hI (x_runI (As := [.int (-5)]) (rest := [.ref ad10]) X hK hA hG hI (xet_X7_init l ad10 (-5) _ _ hs) iX7_init rfl q454 q455 q107 ⟨(Nat.le_of_ble_eq_true rfl), (Nat.le_of_ble_eq_true rfl)⟩ rfl hl.1 rfl (Nat.le_of_ble_eq_true rfl) dX0_set_28 ⟨(Nat.le_of_ble_eq_true rfl), (Nat.le_of_ble_eq_true rfl)⟩) (fun C12 H locs hs9 hI => ?_)
        replace hs := hs9
        obtain ⟨hf12, hs⟩ := hs
        obtain ⟨f12, hf12⟩ := xcl_spec hf12
        obtain ⟨ce, hce, hvm, hcl⟩ := x_thrown hK hI hf12 rfl
        refine vx_athrow hx hb dX0_set_31 ?_
        refine x_catch (k := 1) (a1 := 0) (a2 := 33) (a3 := 34) (a4 := 21) X hG hT rfl (x_cov rfl) rfl (by decide) q363 (by decide) hce hvm hcl ?_
        refine lv_astore (lv' := [(5, .ref ad10), (6, .ref ad8), (0, .ref a0), (1, .int a1), (2, .int a2), (3, .long a3)]) hx hb dX0_set_34 hl (by decide) rfl (fun ls hl => ?_)
        refine lv_aload_n hx hb dX0_set_36 rfl (lv_at hl 2 rfl) ?_
        refine lv_aload hx hb dX0_set_37 (lv_at hl 0 rfl) ?_
        obtain ⟨h15, hs⟩ := hs
        obtain ⟨fh15, h15⟩ := xcl_spec h15
        refine x_goi hA hI (x_runV (As := [.ref ad10]) (rest := []) X hK hA hG hI h15 (q := (RX0, TX0, 10)) rfl rfl (xet_X0_refused l a0 ad10 _ _ hs) iX0_refused q538 q540 qs2 q94 ⟨(Nat.le_of_ble_eq_true rfl), (Nat.le_of_ble_eq_true rfl)⟩ rfl hl.1 rfl (Nat.le_of_ble_eq_true rfl) dX0_set_39 ⟨(Nat.le_of_ble_eq_true rfl), (Nat.le_of_ble_eq_true rfl)⟩) (fun r15 C14 H locs hs9 hI => ?_)
        replace hs := hs9
        exact vx_ret (x_reti X hK hI hs (Nat.le_of_ble_eq_true rfl) (Nat.le_of_ble_eq_true rfl) dX0_set_42)
      · replace hs := hs9
        refine lv_goto (tgt := 32) hx hb dX0_set_17 (by decide) ?_
        refine lv_iconst (v := 1) hx hb dX0_set_32 (by decide) ?_
        exact vx_ret (x_reti X hK hI hs (Nat.le_of_ble_eq_true rfl) (Nat.le_of_ble_eq_true rfl) dX0_set_33)
def x_X9_held (a0 : Nat) (C : XH) (K : Nat → XH → Prop) : Prop := obd (xgr C (xis 9) a0 0) (fun ad1 => K ad1 C)
theorem iX9_held : xInf yX9_held cX9_held 1 (some (.object RJ13)) 0 := ⟨q613, by decide +kernel⟩
set_option maxHeartbeats 4000000 in
theorem xet_X9_held (l : Launch) (a0 : Nat) (C : XH) (K : Nat → XH → Prop) (hs : x_X9_held a0 C K) : xMetr l yX9_held (ws_ yX9_held cX9_held 1 (some (.object RJ13))) 0 0 0 0 C [.ref a0] K := by
  intro D dT adK adV sz
  refine xEnter (own := RX9) (Qc := xQr D dT K) (by decide) rfl (by rfl) ?_
  intro p e s m args below meth c A ls X hnm hK hA hG hI hl
  have hx := X.1
  have hb := X.2.1
  have hts := X.2.2.2.2.1
  have hown := X.2.2.2.2.2.1
  have hl : lv_has ls 1 [(0, .ref a0)] := hl
  unfold x_X9_held at hs
  refine lv_aload_n hx hb dX9_held_0 rfl (lv_at hl 0 rfl) ?_
  obtain ⟨ad1, ead1, hs⟩ := hs
  refine x_get (v := .ref ad1) X hK hI 9 0 rfl in_X9 rfl q502 rfl (xgr_spec ead1) dX9_held_1 ?_
  exact x_retr X hK hI hs (Nat.le_of_ble_eq_true rfl) (Nat.le_of_ble_eq_true rfl) dX9_held_4
def x_X9_sort (a0 : Nat) (C : XH) (K : Int32 → XH → Prop) : Prop := K 0 C
theorem iX9_sort : xInf yX9_sort cX9_sort 1 (some .int) 0 := ⟨q598, by decide +kernel⟩
set_option maxHeartbeats 4000000 in
theorem xet_X9_sort (l : Launch) (a0 : Nat) (C : XH) (K : Int32 → XH → Prop) (hs : x_X9_sort a0 C K) : xMeti l yX9_sort (ws_ yX9_sort cX9_sort 1 (some .int)) 0 0 0 0 C [.ref a0] K := by
  intro D dT adK adV sz
  refine xEnter (own := RX9) (Qc := xQi D dT K) (by decide) rfl (by rfl) ?_
  intro p e s m args below meth c A ls X hnm hK hA hG hI hl
  have hx := X.1
  have hb := X.2.1
  have hts := X.2.2.2.2.1
  have hown := X.2.2.2.2.2.1
  have hl : lv_has ls 1 [(0, .ref a0)] := hl
  unfold x_X9_sort at hs
  refine lv_iconst (v := 0) hx hb dX9_sort_0 (by decide) ?_
  exact x_reti X hK hI hs (Nat.le_of_ble_eq_true rfl) (Nat.le_of_ble_eq_true rfl) dX9_sort_1
def x_X11_held (a0 : Nat) (C : XH) (K : Nat → XH → Prop) : Prop := obd (xgr C (xis 11) a0 0) (fun ad1 => K ad1 C)
theorem iX11_held : xInf yX11_held cX11_held 1 (some (.object RJ13)) 0 := ⟨q616, by decide +kernel⟩
set_option maxHeartbeats 4000000 in
theorem xet_X11_held (l : Launch) (a0 : Nat) (C : XH) (K : Nat → XH → Prop) (hs : x_X11_held a0 C K) : xMetr l yX11_held (ws_ yX11_held cX11_held 1 (some (.object RJ13))) 0 0 0 0 C [.ref a0] K := by
  intro D dT adK adV sz
  refine xEnter (own := RX11) (Qc := xQr D dT K) (by decide) rfl (by rfl) ?_
  intro p e s m args below meth c A ls X hnm hK hA hG hI hl
  have hx := X.1
  have hb := X.2.1
  have hts := X.2.2.2.2.1
  have hown := X.2.2.2.2.2.1
  have hl : lv_has ls 1 [(0, .ref a0)] := hl
  unfold x_X11_held at hs
  refine lv_aload_n hx hb dX11_held_0 rfl (lv_at hl 0 rfl) ?_
  obtain ⟨ad1, ead1, hs⟩ := hs
  refine x_get (v := .ref ad1) X hK hI 11 0 rfl in_X11 rfl q523 rfl (xgr_spec ead1) dX11_held_1 ?_
  exact x_retr X hK hI hs (Nat.le_of_ble_eq_true rfl) (Nat.le_of_ble_eq_true rfl) dX11_held_4
def x_X11_sort (a0 : Nat) (C : XH) (K : Int32 → XH → Prop) : Prop := K 2 C
theorem iX11_sort : xInf yX11_sort cX11_sort 1 (some .int) 0 := ⟨q601, by decide +kernel⟩
set_option maxHeartbeats 4000000 in
theorem xet_X11_sort (l : Launch) (a0 : Nat) (C : XH) (K : Int32 → XH → Prop) (hs : x_X11_sort a0 C K) : xMeti l yX11_sort (ws_ yX11_sort cX11_sort 1 (some .int)) 0 0 0 0 C [.ref a0] K := by
  intro D dT adK adV sz
  refine xEnter (own := RX11) (Qc := xQi D dT K) (by decide) rfl (by rfl) ?_
  intro p e s m args below meth c A ls X hnm hK hA hG hI hl
  have hx := X.1
  have hb := X.2.1
  have hts := X.2.2.2.2.1
  have hown := X.2.2.2.2.2.1
  have hl : lv_has ls 1 [(0, .ref a0)] := hl
  unfold x_X11_sort at hs
  refine lv_iconst (v := 2) hx hb dX11_sort_0 (by decide) ?_
  exact x_reti X hK hI hs (Nat.le_of_ble_eq_true rfl) (Nat.le_of_ble_eq_true rfl) dX11_sort_1
def x_X12_held (a0 : Nat) (C : XH) (K : Nat → XH → Prop) : Prop := obd (xgr C (xis 12) a0 0) (fun ad1 => K ad1 C)
theorem iX12_held : xInf yX12_held cX12_held 1 (some (.object RJ13)) 0 := ⟨q619, by decide +kernel⟩
set_option maxHeartbeats 4000000 in
theorem xet_X12_held (l : Launch) (a0 : Nat) (C : XH) (K : Nat → XH → Prop) (hs : x_X12_held a0 C K) : xMetr l yX12_held (ws_ yX12_held cX12_held 1 (some (.object RJ13))) 0 0 0 0 C [.ref a0] K := by
  intro D dT adK adV sz
  refine xEnter (own := RX12) (Qc := xQr D dT K) (by decide) rfl (by rfl) ?_
  intro p e s m args below meth c A ls X hnm hK hA hG hI hl
  have hx := X.1
  have hb := X.2.1
  have hts := X.2.2.2.2.1
  have hown := X.2.2.2.2.2.1
  have hl : lv_has ls 1 [(0, .ref a0)] := hl
  unfold x_X12_held at hs
  refine lv_aload_n hx hb dX12_held_0 rfl (lv_at hl 0 rfl) ?_
  obtain ⟨ad1, ead1, hs⟩ := hs
  refine x_get (v := .ref ad1) X hK hI 12 0 rfl in_X12 rfl q533 rfl (xgr_spec ead1) dX12_held_1 ?_
  exact x_retr X hK hI hs (Nat.le_of_ble_eq_true rfl) (Nat.le_of_ble_eq_true rfl) dX12_held_4
def x_X12_sort (a0 : Nat) (C : XH) (K : Int32 → XH → Prop) : Prop := K 3 C
theorem iX12_sort : xInf yX12_sort cX12_sort 1 (some .int) 0 := ⟨q604, by decide +kernel⟩
set_option maxHeartbeats 4000000 in
theorem xet_X12_sort (l : Launch) (a0 : Nat) (C : XH) (K : Int32 → XH → Prop) (hs : x_X12_sort a0 C K) : xMeti l yX12_sort (ws_ yX12_sort cX12_sort 1 (some .int)) 0 0 0 0 C [.ref a0] K := by
  intro D dT adK adV sz
  refine xEnter (own := RX12) (Qc := xQi D dT K) (by decide) rfl (by rfl) ?_
  intro p e s m args below meth c A ls X hnm hK hA hG hI hl
  have hx := X.1
  have hb := X.2.1
  have hts := X.2.2.2.2.1
  have hown := X.2.2.2.2.2.1
  have hl : lv_has ls 1 [(0, .ref a0)] := hl
  unfold x_X12_sort at hs
  refine lv_iconst (v := 3) hx hb dX12_sort_0 (by decide) ?_
  exact x_reti X hK hI hs (Nat.le_of_ble_eq_true rfl) (Nat.le_of_ble_eq_true rfl) dX12_sort_1
def x_X5_holdsHopper (a0 : Nat) (C : XH) (K : Int32 → XH → Prop) : Prop := obd (xgo C (xis 5) a0 0) (fun o1 => xinst C o1 (fun v2 => K v2 C))
theorem iX5_holdsHopper : xInf yX5_holdsHopper cX5_holdsHopper 1 (some .boolean) 0 := ⟨q591, by decide +kernel⟩
set_option maxHeartbeats 4000000 in
theorem xet_X5_holdsHopper (l : Launch) (a0 : Nat) (C : XH) (K : Int32 → XH → Prop) (hs : x_X5_holdsHopper a0 C K) : xMetz l yX5_holdsHopper (ws_ yX5_holdsHopper cX5_holdsHopper 1 (some .boolean)) 0 0 0 0 C [.ref a0] K := by
  intro D dT adK adV sz
  refine xEnter (own := RX5) (Qc := xQz D dT K) (by decide) rfl (by rfl) ?_
  intro p e s m args below meth c A ls X hnm hK hA hG hI hl
  have hx := X.1
  have hb := X.2.1
  have hts := X.2.2.2.2.1
  have hown := X.2.2.2.2.2.1
  have hl : lv_has ls 1 [(0, .ref a0)] := hl
  unfold x_X5_holdsHopper at hs
  refine lv_aload_n hx hb dX5_holdsHopper_0 rfl (lv_at hl 0 rfl) ?_
  obtain ⟨o1, eo1, hs⟩ := hs
  refine x_get (v := va_rf o1) X hK hI 5 0 rfl in_X5 rfl q323 rfl (xgo_spec eo1) dX5_holdsHopper_1 ?_
  refine x_inst X hK hG hI q592 hs dX5_holdsHopper_4 (fun v2 bv2 hs9 => ?_)
  replace hs := hs9
  exact x_retz X hK hI bv2 hs (Nat.le_of_ble_eq_true rfl) (Nat.le_of_ble_eq_true rfl) dX5_holdsHopper_7
def x_X10_held (a0 : Nat) (C : XH) (K : Nat → XH → Prop) : Prop := obd (xgr C (xis 10) a0 0) (fun ad1 => K ad1 C)
theorem iX10_held : xInf yX10_held cX10_held 1 (some (.object RJ13)) 0 := ⟨q622, by decide +kernel⟩
set_option maxHeartbeats 4000000 in
theorem xet_X10_held (l : Launch) (a0 : Nat) (C : XH) (K : Nat → XH → Prop) (hs : x_X10_held a0 C K) : xMetr l yX10_held (ws_ yX10_held cX10_held 1 (some (.object RJ13))) 0 0 0 0 C [.ref a0] K := by
  intro D dT adK adV sz
  refine xEnter (own := RX10) (Qc := xQr D dT K) (by decide) rfl (by rfl) ?_
  intro p e s m args below meth c A ls X hnm hK hA hG hI hl
  have hx := X.1
  have hb := X.2.1
  have hts := X.2.2.2.2.1
  have hown := X.2.2.2.2.2.1
  have hl : lv_has ls 1 [(0, .ref a0)] := hl
  unfold x_X10_held at hs
  refine lv_aload_n hx hb dX10_held_0 rfl (lv_at hl 0 rfl) ?_
  obtain ⟨ad1, ead1, hs⟩ := hs
  refine x_get (v := .ref ad1) X hK hI 10 0 rfl in_X10 rfl q512 rfl (xgr_spec ead1) dX10_held_1 ?_
  exact x_retr X hK hI hs (Nat.le_of_ble_eq_true rfl) (Nat.le_of_ble_eq_true rfl) dX10_held_4
def x_X10_sort (a0 : Nat) (C : XH) (K : Int32 → XH → Prop) : Prop := K 1 C
theorem iX10_sort : xInf yX10_sort cX10_sort 1 (some .int) 0 := ⟨q607, by decide +kernel⟩
set_option maxHeartbeats 4000000 in
theorem xet_X10_sort (l : Launch) (a0 : Nat) (C : XH) (K : Int32 → XH → Prop) (hs : x_X10_sort a0 C K) : xMeti l yX10_sort (ws_ yX10_sort cX10_sort 1 (some .int)) 0 0 0 0 C [.ref a0] K := by
  intro D dT adK adV sz
  refine xEnter (own := RX10) (Qc := xQi D dT K) (by decide) rfl (by rfl) ?_
  intro p e s m args below meth c A ls X hnm hK hA hG hI hl
  have hx := X.1
  have hb := X.2.1
  have hts := X.2.2.2.2.1
  have hown := X.2.2.2.2.2.1
  have hl : lv_has ls 1 [(0, .ref a0)] := hl
  unfold x_X10_sort at hs
  refine lv_iconst (v := 1) hx hb dX10_sort_0 (by decide) ?_
  exact x_reti X hK hI hs (Nat.le_of_ble_eq_true rfl) (Nat.le_of_ble_eq_true rfl) dX10_sort_1
def vd_X8_held (b : Nat)  (C : XH) (K : Nat → XH → Prop) : Prop := obd (xcl C b) (fun ci => if ci = 9 then x_X9_held b  C K else if ci = 10 then x_X10_held b  C K else if ci = 11 then x_X11_held b  C K else if ci = 12 then x_X12_held b  C K else False)
theorem vdc_X8_held {p : Program} {l : Launch} {e : Env} {R : Room} {s : State} {m : MethodId} {args : Array Value} {below : List Frame} {meth : Method} {c : Code} {H : Heap} {locs : List Loc} {cells slots : Nat} {own : String} {cc : ByteArray} {nL : Nat} {ret : Option FieldType} {pc : Nat} {ls : Array Slot} {rest : List Value} {D : va_G} {dT : Nat → ClassId} {adK adV : Nat → Nat} {A : Nat → Prop} {C : XH} {index : Nat} (X : xX p s m args meth c own cc nL ret) (hK : va_K D aCl (aT dT) s) (hA : ∀ q : Nat, s.heap.size ≤ q → A q) (hG : xG adK adV A s s.heap) (hI : xI D dT A s.heap C H locs) (b : Nat)  (K : Nat → XH → Prop) (hs : vd_X8_held b  C K) (w1 : Cond.methodLink own index ⟨RX8, "held", "()Ljava/lang/Object;"⟩ ∈ lw_all) (hR : 0 + 1 ≤ R.frames ∧ 8 + (0 + 11) + 1 ≤ R.locals) (hsz : ls.size = nL) (hrm : (rest.map fun v => v.category).sum ≤ 8) (hdg : decode cc pc = .ok (.invokevirtual index, 3)) (hf : cells + 0 ≤ R.cells ∧ slots + 0 ≤ R.slots) : xCtx p l e R s m args below meth c H locs cells slots 0 0 D dT C pc ls ([] ++ .ref b :: rest) rest (fun D dT A => xQr D dT K A) (.ref b :: []) := by
  obtain ⟨ci, hci, hs⟩ := hs
  obtain ⟨fs, hb⟩ := xcl_spec hci
  by_cases h9 : ci = 9
  · subst h9
    replace hs := ifp rfl hs
    exact x_runA (As := []) X hK hA hG hI hb (q := (RX9, TX9, 1)) rfl (xet_X9_held l b  _ _ hs) iX9_held RX8 w1 q610 (by decide) q611 q612 q110 (by decide +kernel) ⟨Nat.le_trans (Nat.le_of_ble_eq_true rfl) hR.1, Nat.le_trans (Nat.le_of_ble_eq_true rfl) hR.2⟩ rfl hsz rfl hrm hdg hf
  · replace hs := ifn h9 hs
    by_cases h10 : ci = 10
    · subst h10
      replace hs := ifp rfl hs
      exact x_runA (As := []) X hK hA hG hI hb (q := (RX10, TX10, 1)) rfl (xet_X10_held l b  _ _ hs) iX10_held RX8 w1 q610 (by decide) q620 q621 q111 (by decide +kernel) ⟨Nat.le_trans (Nat.le_of_ble_eq_true rfl) hR.1, Nat.le_trans (Nat.le_of_ble_eq_true rfl) hR.2⟩ rfl hsz rfl hrm hdg hf
    · replace hs := ifn h10 hs
      by_cases h11 : ci = 11
      · subst h11
        replace hs := ifp rfl hs
        exact x_runA (As := []) X hK hA hG hI hb (q := (RX11, TX11, 1)) rfl (xet_X11_held l b  _ _ hs) iX11_held RX8 w1 q610 (by decide) q614 q615 q112 (by decide +kernel) ⟨Nat.le_trans (Nat.le_of_ble_eq_true rfl) hR.1, Nat.le_trans (Nat.le_of_ble_eq_true rfl) hR.2⟩ rfl hsz rfl hrm hdg hf
      · replace hs := ifn h11 hs
        by_cases h12 : ci = 12
        · subst h12
          replace hs := ifp rfl hs
          exact x_runA (As := []) X hK hA hG hI hb (q := (RX12, TX12, 1)) rfl (xet_X12_held l b  _ _ hs) iX12_held RX8 w1 q610 (by decide) q617 q618 q113 (by decide +kernel) ⟨Nat.le_trans (Nat.le_of_ble_eq_true rfl) hR.1, Nat.le_trans (Nat.le_of_ble_eq_true rfl) hR.2⟩ rfl hsz rfl hrm hdg hf
        · replace hs := ifn h12 hs
          exact hs.elim
