set_option maxRecDepth 100000
def x_X4_addChild (a0 : Nat) (a1 : Int32) (a2 : Int32) (a3 : Int32) (C : XH) (K : XH → Prop) : Prop := obd (xgr C (xis 4) a0 6) (fun ad1 => obd (xgi C (xis 4) a0 0) (fun v2 => obd (xgi C (xis 4) a0 0) (fun v3 => x_X0_hopperOfKind a1 v3 a2 C (fun ad5 C4 => (obd (xcl C4 ad5) (fun ci => xisH ci = true) ∧ obd (xsr C4 7 ad1 v2 ad5) (fun C6 => obd (xgr C6 (xis 4) a0 7) (fun ad8 => obd (xgi C6 (xis 4) a0 0) (fun v9 => obd (xsi C6 ad8 v9 a3) (fun C10 => obd (xgr C10 (xis 4) a0 8) (fun ad11 => obd (xgi C10 (xis 4) a0 0) (fun v12 => obd (xgi C10 (xis 4) a0 0) (fun v13 => obd (xgi C10 (xis 4) a0 1) (fun v14 => jn (fun (v15 : Int32) => obd (xsi C10 ad11 v12 v15) (fun C16 => obd (xgr C16 (xis 4) a0 9) (fun ad17 => obd (xgi C16 (xis 4) a0 0) (fun v18 => obd (xsi C16 ad17 v18 0) (fun C19 => obd (xgr C19 (xis 4) a0 10) (fun ad20 => obd (xgi C19 (xis 4) a0 0) (fun v21 => obd (xsi C19 ad20 v21 0) (fun C22 => obd (xgi C22 (xis 4) a0 0) (fun v23 => obd (xpv C22 (xis 4) a0 0 (.int (v23 + 1))) (fun C24 => K C24)))))))))) (fun k55_15 => (if v14 ≤ v13 then k55_15 0 else obd (xgi C10 (xis 4) a0 0) (fun v25 => k55_15 v25))))))))))))))))
theorem iX4_addChild : xInf yX4_addChild cX4_addChild 4 none 3 := ⟨q779, by decide +kernel⟩
set_option maxHeartbeats 4000000 in
theorem xet_X4_addChild (l : Launch) (a0 : Nat) (a1 : Int32) (a2 : Int32) (a3 : Int32) (C : XH) (K : XH → Prop) (hs : x_X4_addChild a0 a1 a2 a3 C K) : xMetv l yX4_addChild (ws_ yX4_addChild cX4_addChild 4 none) 5 112 1 2 C [.ref a0, .int a1, .int a2, .int a3] K := by
  intro D dT adK adV sz
  refine xEnter (own := RX4) (Qc := xQv D dT K) (by decide) rfl (by rfl) ?_
  intro p e s m args below meth c A ls X hnm hK hA hG hI hl
  have hx := X.1
  have hb := X.2.1
  have hts := X.2.2.2.2.1
  have hown := X.2.2.2.2.2.1
  have hl : lv_has ls 4 [(0, .ref a0), (1, .int a1), (2, .int a2), (3, .int a3)] := hl
  unfold x_X4_addChild at hs
  refine lv_aload_n hx hb dX4_addChild_0 rfl (lv_at hl 0 rfl) ?_
  obtain ⟨ad1, ead1, hs⟩ := hs
  refine x_get (v := .ref ad1) X hK hI 4 6 rfl in_X4 rfl q269 rfl (xgr_spec ead1) dX4_addChild_1 ?_
  refine lv_aload_n hx hb dX4_addChild_4 rfl (lv_at hl 0 rfl) ?_
  obtain ⟨v2, ev2, hs⟩ := hs
  refine x_get (v := .int v2) X hK hI 4 0 rfl in_X4 rfl q251 rfl (xgi_spec ev2) dX4_addChild_5 ?_
  refine lv_iload_n hx hb dX4_addChild_8 rfl (lv_at hl 1 rfl) ?_
  refine lv_aload_n hx hb dX4_addChild_9 rfl (lv_at hl 0 rfl) ?_
  obtain ⟨v3, ev3, hs⟩ := hs
  refine x_get (v := .int v3) X hK hI 4 0 rfl in_X4 rfl q251 rfl (xgi_spec ev3) dX4_addChild_10 ?_
  refine lv_iload_n hx hb dX4_addChild_13 rfl (lv_at hl 2 rfl) ?_
  refine x_gor hA hI (x_runS (As := [.int a1, .int v3, .int a2]) (rest := [.int v2, .ref ad1]) X hK hA hG hI (xet_X0_hopperOfKind l a1 v3 a2 _ _ hs) iX0_hopperOfKind q780 q781 q94 ⟨(Nat.le_of_ble_eq_true rfl), (Nat.le_of_ble_eq_true rfl)⟩ rfl hl.1 rfl (Nat.le_of_ble_eq_true rfl) dX4_addChild_14 ⟨(Nat.le_of_ble_eq_true rfl), (Nat.le_of_ble_eq_true rfl)⟩) (fun ad5 C4 H locs hs9 hI => ?_)
  replace hs := hs9
  obtain ⟨z6, hs⟩ := hs
  obtain ⟨C6, eC6, hs⟩ := hs
  refine x_aast X hK hI 7 rfl (x_anyH hK hG hI z6) eC6 dX4_addChild_17 (fun H locs hI => ?_)
  refine lv_aload_n hx hb dX4_addChild_18 rfl (lv_at hl 0 rfl) ?_
  obtain ⟨ad8, ead8, hs⟩ := hs
  refine x_get (v := .ref ad8) X hK hI 4 7 rfl in_X4 rfl q273 rfl (xgr_spec ead8) dX4_addChild_19 ?_
  refine lv_aload_n hx hb dX4_addChild_22 rfl (lv_at hl 0 rfl) ?_
  obtain ⟨v9, ev9, hs⟩ := hs
  refine x_get (v := .int v9) X hK hI 4 0 rfl in_X4 rfl q251 rfl (xgi_spec ev9) dX4_addChild_23 ?_
  refine lv_iload_n hx hb dX4_addChild_26 rfl (lv_at hl 3 rfl) ?_
  obtain ⟨C10, eC10, hs⟩ := hs
  refine x_iast X hK hI eC10 dX4_addChild_27 (fun H locs hI => ?_)
  refine lv_aload_n hx hb dX4_addChild_28 rfl (lv_at hl 0 rfl) ?_
  obtain ⟨ad11, ead11, hs⟩ := hs
  refine x_get (v := .ref ad11) X hK hI 4 8 rfl in_X4 rfl q277 rfl (xgr_spec ead11) dX4_addChild_29 ?_
  refine lv_aload_n hx hb dX4_addChild_32 rfl (lv_at hl 0 rfl) ?_
  obtain ⟨v12, ev12, hs⟩ := hs
  refine x_get (v := .int v12) X hK hI 4 0 rfl in_X4 rfl q251 rfl (xgi_spec ev12) dX4_addChild_33 ?_
  refine lv_aload_n hx hb dX4_addChild_36 rfl (lv_at hl 0 rfl) ?_
  obtain ⟨v13, ev13, hs⟩ := hs
  refine x_get (v := .int v13) X hK hI 4 0 rfl in_X4 rfl q251 rfl (xgi_spec ev13) dX4_addChild_37 ?_
  refine lv_aload_n hx hb dX4_addChild_40 rfl (lv_at hl 0 rfl) ?_
  obtain ⟨v14, ev14, hs⟩ := hs
  refine x_get (v := .int v14) X hK hI 4 1 rfl in_X4 rfl q254 rfl (xgi_spec ev14) dX4_addChild_41 ?_
  obtain ⟨k55_15, hk55_15, hs⟩ := jn_ex hs
  have Ek55_15 : ∀ (v15 : Int32) (H : Heap) (locs : List Loc) (ls : Array Slot), k55_15 v15 → xI D dT A s.heap C10 H locs → lv_has ls 4 [(0, .ref a0)] → W p l e (xRm 5 112 1 2) s m args below meth c H locs 1 2 (MQ below (xQv D dT K A) args s 1 2 A) (F0 m 55 ls [.int v15, .int v12, .ref ad11]) := by
    intro v15 H locs ls hs hI hl
    rw [hk55_15] at hs
    obtain ⟨C16, eC16, hs⟩ := hs
    refine x_iast X hK hI eC16 dX4_addChild_55 (fun H locs hI => ?_)
    refine lv_aload_n hx hb dX4_addChild_56 rfl (lv_at hl 0 rfl) ?_
    obtain ⟨ad17, ead17, hs⟩ := hs
    refine x_get (v := .ref ad17) X hK hI 4 9 rfl in_X4 rfl q281 rfl (xgr_spec ead17) dX4_addChild_57 ?_
    refine lv_aload_n hx hb dX4_addChild_60 rfl (lv_at hl 0 rfl) ?_
    obtain ⟨v18, ev18, hs⟩ := hs
    refine x_get (v := .int v18) X hK hI 4 0 rfl in_X4 rfl q251 rfl (xgi_spec ev18) dX4_addChild_61 ?_
    refine lv_iconst (v := 0) hx hb dX4_addChild_64 (by decide) ?_
    obtain ⟨C19, eC19, hs⟩ := hs
    refine x_iast X hK hI eC19 dX4_addChild_65 (fun H locs hI => ?_)
    refine lv_aload_n hx hb dX4_addChild_66 rfl (lv_at hl 0 rfl) ?_
    obtain ⟨ad20, ead20, hs⟩ := hs
    refine x_get (v := .ref ad20) X hK hI 4 10 rfl in_X4 rfl q285 rfl (xgr_spec ead20) dX4_addChild_67 ?_
    refine lv_aload_n hx hb dX4_addChild_70 rfl (lv_at hl 0 rfl) ?_
    obtain ⟨v21, ev21, hs⟩ := hs
    refine x_get (v := .int v21) X hK hI 4 0 rfl in_X4 rfl q251 rfl (xgi_spec ev21) dX4_addChild_71 ?_
    refine lv_iconst (v := 0) hx hb dX4_addChild_74 (by decide) ?_
    obtain ⟨C22, eC22, hs⟩ := hs
    refine x_iast X hK hI eC22 dX4_addChild_75 (fun H locs hI => ?_)
    refine lv_aload_n hx hb dX4_addChild_76 rfl (lv_at hl 0 rfl) ?_
    refine lv_dup hx hb dX4_addChild_77 rfl ?_
    obtain ⟨v23, ev23, hs⟩ := hs
    refine x_get (v := .int v23) X hK hI 4 0 rfl in_X4 rfl q251 rfl (xgi_spec ev23) dX4_addChild_78 ?_
    refine lv_iconst (v := 1) hx hb dX4_addChild_81 (by decide) ?_
    refine lv_iadd hx hb dX4_addChild_82 ?_
    obtain ⟨C24, eC24, hs⟩ := hs
    refine x_put X hK hI 4 0 rfl in_X4 tyX4 tyX4_ok nmX4 rfl q251 rfl rfl rfl rfl eC24 dX4_addChild_83 (fun H locs hI => ?_)
    exact x_retv X hK hI hs (Nat.le_of_ble_eq_true rfl) (Nat.le_of_ble_eq_true rfl) dX4_addChild_86
  refine lv_icmp_ge (tgt := 54) hx hb dX4_addChild_44 (by decide) (fun c25 => ?_) (fun c25 => ?_)
  · replace hs := ifp c25 hs
    refine lv_iconst (v := 0) hx hb dX4_addChild_54 (by decide) ?_
    exact Ek55_15 _ _ _ _ hs hI (lv_sub hl [0] rfl)
  · replace hs := ifn c25 hs
    refine lv_aload_n hx hb dX4_addChild_47 rfl (lv_at hl 0 rfl) ?_
    obtain ⟨v25, ev25, hs⟩ := hs
    refine x_get (v := .int v25) X hK hI 4 0 rfl in_X4 rfl q251 rfl (xgi_spec ev25) dX4_addChild_48 ?_
    refine lv_goto (tgt := 55) hx hb dX4_addChild_51 (by decide) ?_
    exact Ek55_15 _ _ _ _ hs hI (lv_sub hl [0] rfl)
def x_X0_child (a0 : Nat) (a1 : Int32) (a2 : Int32) (a3 : Int32) (C : XH) (K : Int32 → XH → Prop) : Prop := x_X0_in ((a1 : Int32).toInt64) 0 6 C (fun r2 C1 => x_X0_need r2 (-1) C1 (fun C3 => x_X0_in ((a2 : Int32).toInt64) 0 9 C3 (fun r5 C4 => jn (fun (C6 : XH) => x_X0_need 0 (-6) C6 (fun C7 => obd (xgr C7 (xis 0) a0 7) (fun ad8 => obd (xgi C7 (xis 4) ad8 0) (fun v9 => jn (fun (v10 : Int32) => x_X0_need v10 (-7) C7 (fun C11 => obd (xgr C11 (xis 0) a0 7) (fun ad12 => (xcl C11 ad12 = some 4 ∧ x_X4_addChild ad12 a1 a2 a3 C11 (fun C13 => obd (xgr C13 (xis 0) a0 7) (fun ad15 => obd (xgi C13 (xis 4) ad15 0) (fun v16 => K (v16 - 1) C13)))))) (fun ad17 C18 => (xcl C18 a0 = some 0 ∧ x_X0_refused a0 ad17 C18 (fun r20 C19 => K r20 C19)))) (fun k64_10 => (if 8 ≤ v9 then k64_10 0 else k64_10 1))))) (fun ad23 C24 => (xcl C24 a0 = some 0 ∧ x_X0_refused a0 ad23 C24 (fun r26 C25 => K r26 C25)))) (fun k41_6 => jn (fun (v28 : Int32) (C29 : XH) => x_X0_need v28 (-6) C29 (fun C30 => obd (xgr C30 (xis 0) a0 7) (fun ad31 => obd (xgi C30 (xis 4) ad31 0) (fun v32 => jn (fun (v33 : Int32) => x_X0_need v33 (-7) C30 (fun C34 => obd (xgr C34 (xis 0) a0 7) (fun ad35 => (xcl C34 ad35 = some 4 ∧ x_X4_addChild ad35 a1 a2 a3 C34 (fun C36 => obd (xgr C36 (xis 0) a0 7) (fun ad38 => obd (xgi C36 (xis 4) ad38 0) (fun v39 => K (v39 - 1) C36)))))) (fun ad40 C41 => (xcl C41 a0 = some 0 ∧ x_X0_refused a0 ad40 C41 (fun r43 C42 => K r43 C42)))) (fun k64_33 => (if 8 ≤ v32 then k64_33 0 else k64_33 1))))) (fun ad46 C47 => (xcl C47 a0 = some 0 ∧ x_X0_refused a0 ad46 C47 (fun r49 C48 => K r49 C48)))) (fun k42_29 => (if r5 = 0 then k41_6 C4 else x_X0_in ((a3 : Int32).toInt64) 1 9 C4 (fun r52 C51 => (if r52 = 0 then k41_6 C51 else k42_29 1 C51))))))) (fun ad55 C56 => (xcl C56 a0 = some 0 ∧ x_X0_refused a0 ad55 C56 (fun r58 C57 => K r58 C57))))
theorem iX0_child : xInfW yX0_child cX0_child 5 (some .int) [(0, 88, 89, 21)] 3 := ⟨q774, by decide +kernel⟩
set_option maxHeartbeats 4000000 in
theorem xet_X0_child (l : Launch) (hl0 : l.stackTraces = false) (a0 : Nat) (a1 : Int32) (a2 : Int32) (a3 : Int32) (C : XH) (K : Int32 → XH → Prop) (hs : x_X0_child a0 a1 a2 a3 C K) : xMetX l yX0_child (wsW_ yX0_child cX0_child 5 (some .int) [(0, 88, 89, 21)]) 6 135 4 23 C [.ref a0, .int a1, .int a2, .int a3] (fun D dT A => xQi D dT K A) xE0 := by
  intro D dT adK adV sz
  refine xEnterW (own := RX0) (Qc := xQi D dT K) (XC := xXC D dT xE0) (by decide) rfl (by rfl) ?_
  intro p e s m args below meth c A ls X hnm hK hA hG hT hI hl
  have hx := X.1
  have hb := X.2.1
  have hts := X.2.2.2.2.1
  have hown := X.2.2.2.2.2.1
  have hl : lv_has ls 5 [(0, .ref a0), (1, .int a1), (2, .int a2), (3, .int a3)] := hl
  unfold x_X0_child at hs
  refine lv_iload_n hx hb dX0_child_0 rfl (lv_at hl 1 rfl) ?_
  refine lv_i2l (v := ((a1 : Int32).toInt64)) hx hb dX0_child_1 rfl ?_
  refine lv_lconst (v := 0) hx hb dX0_child_2 (by decide) ?_
  refine lv_ldc2 hx hb hown (hts _ q668) dX0_child_3 ?_
  refine x_goz hA hI (x_runS (As := [.long ((a1 : Int32).toInt64), .long 0, .long 6]) (rest := []) X hK hA hG hI (xet_X0_in l ((a1 : Int32).toInt64) 0 6 _ _ hs) iX0_in q473 q474 q94 ⟨(Nat.le_of_ble_eq_true rfl), (Nat.le_of_ble_eq_true rfl)⟩ rfl hl.1 rfl (Nat.le_of_ble_eq_true rfl) dX0_child_6 ⟨(Nat.le_of_ble_eq_true rfl), (Nat.le_of_ble_eq_true rfl)⟩) (fun r2 C1 H locs br2 hs9 hI => ?_)
  replace hs := hs9
  refine lv_iconst (v := (-1)) hx hb dX0_child_9 (by decide) ?_
  refine xT_gov hA hI (x_runST (As := [.int r2, .int (-1)]) (rest := []) X hK hA hG hI (xet_X0_need l hl0 r2 (-1) _ _ _ hs) iX0_need q469 q470 q94 ⟨(Nat.le_of_ble_eq_true rfl), (Nat.le_of_ble_eq_true rfl)⟩ rfl hl.1 rfl (Nat.le_of_ble_eq_true rfl) dX0_child_10 ⟨(Nat.le_of_ble_eq_true rfl), (Nat.le_of_ble_eq_true rfl)⟩) (fun En ce ad55 C56 H locs hs9 hI hce hvm hcl => ?_) (fun C3 H locs hs9 hI => ?_)
  · obtain ⟨rfl, hs0⟩ := hs9
    replace hs := hs0
    refine x_catch (k := 0) (a1 := 0) (a2 := 88) (a3 := 89) (a4 := 21) X hG hT rfl (x_cov rfl) rfl (by decide) q363 (by decide) hce hvm hcl ?_
    refine lv_astore (lv' := [(4, .ref ad55), (0, .ref a0), (1, .int a1), (2, .int a2), (3, .int a3)]) hx hb dX0_child_89 hl (by decide) rfl (fun ls hl => ?_)
    refine lv_aload_n hx hb dX0_child_91 rfl (lv_at hl 1 rfl) ?_
    refine lv_aload hx hb dX0_child_92 (lv_at hl 0 rfl) ?_
    obtain ⟨h58, hs⟩ := hs
    obtain ⟨fh58, h58⟩ := xcl_spec h58
    refine x_goi hA hI (x_runV (As := [.ref ad55]) (rest := []) X hK hA hG hI h58 (q := (RX0, TX0, 10)) rfl rfl (xet_X0_refused l a0 ad55 _ _ hs) iX0_refused q538 q540 qs2 q94 ⟨(Nat.le_of_ble_eq_true rfl), (Nat.le_of_ble_eq_true rfl)⟩ rfl hl.1 rfl (Nat.le_of_ble_eq_true rfl) dX0_child_94 ⟨(Nat.le_of_ble_eq_true rfl), (Nat.le_of_ble_eq_true rfl)⟩) (fun r58 C57 H locs hs9 hI => ?_)
    replace hs := hs9
    exact vx_ret (x_reti X hK hI hs (Nat.le_of_ble_eq_true rfl) (Nat.le_of_ble_eq_true rfl) dX0_child_97)
  · replace hs := hs9
    refine lv_iload_n hx hb dX0_child_13 rfl (lv_at hl 2 rfl) ?_
    refine lv_i2l (v := ((a2 : Int32).toInt64)) hx hb dX0_child_14 rfl ?_
    refine lv_lconst (v := 0) hx hb dX0_child_15 (by decide) ?_
    refine lv_ldc2 hx hb hown (hts _ q775) dX0_child_16 ?_
    refine x_goz hA hI (x_runS (As := [.long ((a2 : Int32).toInt64), .long 0, .long 9]) (rest := []) X hK hA hG hI (xet_X0_in l ((a2 : Int32).toInt64) 0 9 _ _ hs) iX0_in q473 q474 q94 ⟨(Nat.le_of_ble_eq_true rfl), (Nat.le_of_ble_eq_true rfl)⟩ rfl hl.1 rfl (Nat.le_of_ble_eq_true rfl) dX0_child_19 ⟨(Nat.le_of_ble_eq_true rfl), (Nat.le_of_ble_eq_true rfl)⟩) (fun r5 C4 H locs br5 hs9 hI => ?_)
    replace hs := hs9
    obtain ⟨k41_6, hk41_6, hs⟩ := jn_ex hs
    have Ek41_6 : ∀ (C6 : XH) (H : Heap) (locs : List Loc) (ls : Array Slot), k41_6 C6 → xI D dT A s.heap C6 H locs → lv_has ls 5 [(0, .ref a0), (1, .int a1), (2, .int a2), (3, .int a3)] → W p l e (xRm 6 135 4 23) s m args below meth c H locs 1 7 (vx_MQ below (xQi D dT K A) (xXC D dT xE0 A) args s 4 23 A) (F0 m 41 ls []) := by
      intro C6 H locs ls hs hI hl
      rw [hk41_6] at hs
      refine lv_iconst (v := 0) hx hb dX0_child_41 (by decide) ?_
      refine lv_bipush (v := (-6)) hx hb dX0_child_42 (by decide) ?_
      refine xT_gov hA hI (x_runST (As := [.int 0, .int (-6)]) (rest := []) X hK hA hG hI (xet_X0_need l hl0 0 (-6) _ _ _ hs) iX0_need q469 q470 q94 ⟨(Nat.le_of_ble_eq_true rfl), (Nat.le_of_ble_eq_true rfl)⟩ rfl hl.1 rfl (Nat.le_of_ble_eq_true rfl) dX0_child_44 ⟨(Nat.le_of_ble_eq_true rfl), (Nat.le_of_ble_eq_true rfl)⟩) (fun En ce ad23 C24 H locs hs9 hI hce hvm hcl => ?_) (fun C7 H locs hs9 hI => ?_)
      · obtain ⟨rfl, hs0⟩ := hs9
        replace hs := hs0
        refine x_catch (k := 0) (a1 := 0) (a2 := 88) (a3 := 89) (a4 := 21) X hG hT rfl (x_cov rfl) rfl (by decide) q363 (by decide) hce hvm hcl ?_
        refine lv_astore (lv' := [(4, .ref ad23), (0, .ref a0), (1, .int a1), (2, .int a2), (3, .int a3)]) hx hb dX0_child_89 hl (by decide) rfl (fun ls hl => ?_)
        refine lv_aload_n hx hb dX0_child_91 rfl (lv_at hl 1 rfl) ?_
        refine lv_aload hx hb dX0_child_92 (lv_at hl 0 rfl) ?_
        obtain ⟨h26, hs⟩ := hs
        obtain ⟨fh26, h26⟩ := xcl_spec h26
        refine x_goi hA hI (x_runV (As := [.ref ad23]) (rest := []) X hK hA hG hI h26 (q := (RX0, TX0, 10)) rfl rfl (xet_X0_refused l a0 ad23 _ _ hs) iX0_refused q538 q540 qs2 q94 ⟨(Nat.le_of_ble_eq_true rfl), (Nat.le_of_ble_eq_true rfl)⟩ rfl hl.1 rfl (Nat.le_of_ble_eq_true rfl) dX0_child_94 ⟨(Nat.le_of_ble_eq_true rfl), (Nat.le_of_ble_eq_true rfl)⟩) (fun r26 C25 H locs hs9 hI => ?_)
        replace hs := hs9
        exact vx_ret (x_reti X hK hI hs (Nat.le_of_ble_eq_true rfl) (Nat.le_of_ble_eq_true rfl) dX0_child_97)
      · replace hs := hs9
        refine lv_aload_n hx hb dX0_child_47 rfl (lv_at hl 0 rfl) ?_
        obtain ⟨ad8, ead8, hs⟩ := hs
        refine x_get (v := .ref ad8) X hK hI 0 7 rfl in_X0 rfl q335 rfl (xgr_spec ead8) dX0_child_48 ?_
        obtain ⟨v9, ev9, hs⟩ := hs
        refine x_get (v := .int v9) X hK hI 4 0 rfl in_X4 rfl q252 rfl (xgi_spec ev9) dX0_child_51 ?_
        refine lv_bipush (v := 8) hx hb dX0_child_54 (by decide) ?_
        obtain ⟨k64_10, hk64_10, hs⟩ := jn_ex hs
        have Ek64_10 : ∀ (v10 : Int32) (H : Heap) (locs : List Loc) (ls : Array Slot), k64_10 v10 → xI D dT A s.heap C7 H locs → lv_has ls 5 [(0, .ref a0), (1, .int a1), (2, .int a2), (3, .int a3)] → W p l e (xRm 6 135 4 23) s m args below meth c H locs 2 14 (vx_MQ below (xQi D dT K A) (xXC D dT xE0 A) args s 4 23 A) (F0 m 64 ls [.int v10]) := by
          intro v10 H locs ls hs hI hl
          rw [hk64_10] at hs
          refine lv_bipush (v := (-7)) hx hb dX0_child_64 (by decide) ?_
          refine xT_gov hA hI (x_runST (As := [.int v10, .int (-7)]) (rest := []) X hK hA hG hI (xet_X0_need l hl0 v10 (-7) _ _ _ hs) iX0_need q469 q470 q94 ⟨(Nat.le_of_ble_eq_true rfl), (Nat.le_of_ble_eq_true rfl)⟩ rfl hl.1 rfl (Nat.le_of_ble_eq_true rfl) dX0_child_66 ⟨(Nat.le_of_ble_eq_true rfl), (Nat.le_of_ble_eq_true rfl)⟩) (fun En ce ad17 C18 H locs hs9 hI hce hvm hcl => ?_) (fun C11 H locs hs9 hI => ?_)
          · obtain ⟨rfl, hs0⟩ := hs9
            replace hs := hs0
            refine x_catch (k := 0) (a1 := 0) (a2 := 88) (a3 := 89) (a4 := 21) X hG hT rfl (x_cov rfl) rfl (by decide) q363 (by decide) hce hvm hcl ?_
            refine lv_astore (lv' := [(4, .ref ad17), (0, .ref a0), (1, .int a1), (2, .int a2), (3, .int a3)]) hx hb dX0_child_89 hl (by decide) rfl (fun ls hl => ?_)
            refine lv_aload_n hx hb dX0_child_91 rfl (lv_at hl 1 rfl) ?_
            refine lv_aload hx hb dX0_child_92 (lv_at hl 0 rfl) ?_
            obtain ⟨h20, hs⟩ := hs
            obtain ⟨fh20, h20⟩ := xcl_spec h20
            refine x_goi hA hI (x_runV (As := [.ref ad17]) (rest := []) X hK hA hG hI h20 (q := (RX0, TX0, 10)) rfl rfl (xet_X0_refused l a0 ad17 _ _ hs) iX0_refused q538 q540 qs2 q94 ⟨(Nat.le_of_ble_eq_true rfl), (Nat.le_of_ble_eq_true rfl)⟩ rfl hl.1 rfl (Nat.le_of_ble_eq_true rfl) dX0_child_94 ⟨(Nat.le_of_ble_eq_true rfl), (Nat.le_of_ble_eq_true rfl)⟩) (fun r20 C19 H locs hs9 hI => ?_)
            replace hs := hs9
            exact vx_ret (x_reti X hK hI hs (Nat.le_of_ble_eq_true rfl) (Nat.le_of_ble_eq_true rfl) dX0_child_97)
          · replace hs := hs9
            refine lv_aload_n hx hb dX0_child_69 rfl (lv_at hl 0 rfl) ?_
            obtain ⟨ad12, ead12, hs⟩ := hs
            refine x_get (v := .ref ad12) X hK hI 0 7 rfl in_X0 rfl q335 rfl (xgr_spec ead12) dX0_child_70 ?_
            refine lv_iload_n hx hb dX0_child_73 rfl (lv_at hl 1 rfl) ?_
            refine lv_iload_n hx hb dX0_child_74 rfl (lv_at hl 2 rfl) ?_
            refine lv_iload_n hx hb dX0_child_75 rfl (lv_at hl 3 rfl) ?_
            obtain ⟨h13, hs⟩ := hs
            obtain ⟨fh13, h13⟩ := xcl_spec h13
            refine x_gov hA hI (x_runV (As := [.int a1, .int a2, .int a3]) (rest := []) X hK hA hG hI h13 (q := (RX4, TX4, 13)) rfl rfl (xet_X4_addChild l ad12 a1 a2 a3 _ _ hs) iX4_addChild q776 q777 q778 q98 ⟨(Nat.le_of_ble_eq_true rfl), (Nat.le_of_ble_eq_true rfl)⟩ rfl hl.1 rfl (Nat.le_of_ble_eq_true rfl) dX0_child_76 ⟨(Nat.le_of_ble_eq_true rfl), (Nat.le_of_ble_eq_true rfl)⟩) (fun C13 H locs hs9 hI => ?_)
            replace hs := hs9
            refine lv_aload_n hx hb dX0_child_79 rfl (lv_at hl 0 rfl) ?_
            obtain ⟨ad15, ead15, hs⟩ := hs
            refine x_get (v := .ref ad15) X hK hI 0 7 rfl in_X0 rfl q335 rfl (xgr_spec ead15) dX0_child_80 ?_
            obtain ⟨v16, ev16, hs⟩ := hs
            refine x_get (v := .int v16) X hK hI 4 0 rfl in_X4 rfl q252 rfl (xgi_spec ev16) dX0_child_83 ?_
            refine lv_iconst (v := 1) hx hb dX0_child_86 (by decide) ?_
            refine lv_isub hx hb dX0_child_87 ?_
            exact vx_ret (x_reti X hK hI hs (Nat.le_of_ble_eq_true rfl) (Nat.le_of_ble_eq_true rfl) dX0_child_88)
        refine lv_icmp_ge (tgt := 63) hx hb dX0_child_56 (by decide) (fun c21 => ?_) (fun c21 => ?_)
        · replace hs := ifp c21 hs
          refine lv_iconst (v := 0) hx hb dX0_child_63 (by decide) ?_
          exact Ek64_10 _ _ _ _ hs hI hl
        · replace hs := ifn c21 hs
          refine lv_iconst (v := 1) hx hb dX0_child_59 (by decide) ?_
          refine lv_goto (tgt := 64) hx hb dX0_child_60 (by decide) ?_
          exact Ek64_10 _ _ _ _ hs hI hl
    obtain ⟨k42_29, hk42_29, hs⟩ := jn_ex hs
    have Ek42_29 : ∀ (v28 : Int32) (C29 : XH) (H : Heap) (locs : List Loc) (ls : Array Slot), k42_29 v28 C29 → xI D dT A s.heap C29 H locs → lv_has ls 5 [(0, .ref a0), (1, .int a1), (2, .int a2), (3, .int a3)] → W p l e (xRm 6 135 4 23) s m args below meth c H locs 1 7 (vx_MQ below (xQi D dT K A) (xXC D dT xE0 A) args s 4 23 A) (F0 m 42 ls [.int v28]) := by
      intro v28 C29 H locs ls hs hI hl
      rw [hk42_29] at hs
      refine lv_bipush (v := (-6)) hx hb dX0_child_42 (by decide) ?_
      refine xT_gov hA hI (x_runST (As := [.int v28, .int (-6)]) (rest := []) X hK hA hG hI (xet_X0_need l hl0 v28 (-6) _ _ _ hs) iX0_need q469 q470 q94 ⟨(Nat.le_of_ble_eq_true rfl), (Nat.le_of_ble_eq_true rfl)⟩ rfl hl.1 rfl (Nat.le_of_ble_eq_true rfl) dX0_child_44 ⟨(Nat.le_of_ble_eq_true rfl), (Nat.le_of_ble_eq_true rfl)⟩) (fun En ce ad46 C47 H locs hs9 hI hce hvm hcl => ?_) (fun C30 H locs hs9 hI => ?_)
      · obtain ⟨rfl, hs0⟩ := hs9
        replace hs := hs0
        refine x_catch (k := 0) (a1 := 0) (a2 := 88) (a3 := 89) (a4 := 21) X hG hT rfl (x_cov rfl) rfl (by decide) q363 (by decide) hce hvm hcl ?_
        refine lv_astore (lv' := [(4, .ref ad46), (0, .ref a0), (1, .int a1), (2, .int a2), (3, .int a3)]) hx hb dX0_child_89 hl (by decide) rfl (fun ls hl => ?_)
        refine lv_aload_n hx hb dX0_child_91 rfl (lv_at hl 1 rfl) ?_
        refine lv_aload hx hb dX0_child_92 (lv_at hl 0 rfl) ?_
        obtain ⟨h49, hs⟩ := hs
        obtain ⟨fh49, h49⟩ := xcl_spec h49
        refine x_goi hA hI (x_runV (As := [.ref ad46]) (rest := []) X hK hA hG hI h49 (q := (RX0, TX0, 10)) rfl rfl (xet_X0_refused l a0 ad46 _ _ hs) iX0_refused q538 q540 qs2 q94 ⟨(Nat.le_of_ble_eq_true rfl), (Nat.le_of_ble_eq_true rfl)⟩ rfl hl.1 rfl (Nat.le_of_ble_eq_true rfl) dX0_child_94 ⟨(Nat.le_of_ble_eq_true rfl), (Nat.le_of_ble_eq_true rfl)⟩) (fun r49 C48 H locs hs9 hI => ?_)
        replace hs := hs9
        exact vx_ret (x_reti X hK hI hs (Nat.le_of_ble_eq_true rfl) (Nat.le_of_ble_eq_true rfl) dX0_child_97)
      · replace hs := hs9
        refine lv_aload_n hx hb dX0_child_47 rfl (lv_at hl 0 rfl) ?_
        obtain ⟨ad31, ead31, hs⟩ := hs
        refine x_get (v := .ref ad31) X hK hI 0 7 rfl in_X0 rfl q335 rfl (xgr_spec ead31) dX0_child_48 ?_
        obtain ⟨v32, ev32, hs⟩ := hs
        refine x_get (v := .int v32) X hK hI 4 0 rfl in_X4 rfl q252 rfl (xgi_spec ev32) dX0_child_51 ?_
        refine lv_bipush (v := 8) hx hb dX0_child_54 (by decide) ?_
        obtain ⟨k64_33, hk64_33, hs⟩ := jn_ex hs
        have Ek64_33 : ∀ (v33 : Int32) (H : Heap) (locs : List Loc) (ls : Array Slot), k64_33 v33 → xI D dT A s.heap C30 H locs → lv_has ls 5 [(0, .ref a0), (1, .int a1), (2, .int a2), (3, .int a3)] → W p l e (xRm 6 135 4 23) s m args below meth c H locs 2 14 (vx_MQ below (xQi D dT K A) (xXC D dT xE0 A) args s 4 23 A) (F0 m 64 ls [.int v33]) := by
          intro v33 H locs ls hs hI hl
          rw [hk64_33] at hs
          refine lv_bipush (v := (-7)) hx hb dX0_child_64 (by decide) ?_
          refine xT_gov hA hI (x_runST (As := [.int v33, .int (-7)]) (rest := []) X hK hA hG hI (xet_X0_need l hl0 v33 (-7) _ _ _ hs) iX0_need q469 q470 q94 ⟨(Nat.le_of_ble_eq_true rfl), (Nat.le_of_ble_eq_true rfl)⟩ rfl hl.1 rfl (Nat.le_of_ble_eq_true rfl) dX0_child_66 ⟨(Nat.le_of_ble_eq_true rfl), (Nat.le_of_ble_eq_true rfl)⟩) (fun En ce ad40 C41 H locs hs9 hI hce hvm hcl => ?_) (fun C34 H locs hs9 hI => ?_)
          · obtain ⟨rfl, hs0⟩ := hs9
            replace hs := hs0
            refine x_catch (k := 0) (a1 := 0) (a2 := 88) (a3 := 89) (a4 := 21) X hG hT rfl (x_cov rfl) rfl (by decide) q363 (by decide) hce hvm hcl ?_
            refine lv_astore (lv' := [(4, .ref ad40), (0, .ref a0), (1, .int a1), (2, .int a2), (3, .int a3)]) hx hb dX0_child_89 hl (by decide) rfl (fun ls hl => ?_)
            refine lv_aload_n hx hb dX0_child_91 rfl (lv_at hl 1 rfl) ?_
            refine lv_aload hx hb dX0_child_92 (lv_at hl 0 rfl) ?_
            obtain ⟨h43, hs⟩ := hs
            obtain ⟨fh43, h43⟩ := xcl_spec h43
            refine x_goi hA hI (x_runV (As := [.ref ad40]) (rest := []) X hK hA hG hI h43 (q := (RX0, TX0, 10)) rfl rfl (xet_X0_refused l a0 ad40 _ _ hs) iX0_refused q538 q540 qs2 q94 ⟨(Nat.le_of_ble_eq_true rfl), (Nat.le_of_ble_eq_true rfl)⟩ rfl hl.1 rfl (Nat.le_of_ble_eq_true rfl) dX0_child_94 ⟨(Nat.le_of_ble_eq_true rfl), (Nat.le_of_ble_eq_true rfl)⟩) (fun r43 C42 H locs hs9 hI => ?_)
            replace hs := hs9
            exact vx_ret (x_reti X hK hI hs (Nat.le_of_ble_eq_true rfl) (Nat.le_of_ble_eq_true rfl) dX0_child_97)
          · replace hs := hs9
            refine lv_aload_n hx hb dX0_child_69 rfl (lv_at hl 0 rfl) ?_
            obtain ⟨ad35, ead35, hs⟩ := hs
            refine x_get (v := .ref ad35) X hK hI 0 7 rfl in_X0 rfl q335 rfl (xgr_spec ead35) dX0_child_70 ?_
            refine lv_iload_n hx hb dX0_child_73 rfl (lv_at hl 1 rfl) ?_
            refine lv_iload_n hx hb dX0_child_74 rfl (lv_at hl 2 rfl) ?_
            refine lv_iload_n hx hb dX0_child_75 rfl (lv_at hl 3 rfl) ?_
            obtain ⟨h36, hs⟩ := hs
            obtain ⟨fh36, h36⟩ := xcl_spec h36
            refine x_gov hA hI (x_runV (As := [.int a1, .int a2, .int a3]) (rest := []) X hK hA hG hI h36 (q := (RX4, TX4, 13)) rfl rfl (xet_X4_addChild l ad35 a1 a2 a3 _ _ hs) iX4_addChild q776 q777 q778 q98 ⟨(Nat.le_of_ble_eq_true rfl), (Nat.le_of_ble_eq_true rfl)⟩ rfl hl.1 rfl (Nat.le_of_ble_eq_true rfl) dX0_child_76 ⟨(Nat.le_of_ble_eq_true rfl), (Nat.le_of_ble_eq_true rfl)⟩) (fun C36 H locs hs9 hI => ?_)
            replace hs := hs9
            refine lv_aload_n hx hb dX0_child_79 rfl (lv_at hl 0 rfl) ?_
            obtain ⟨ad38, ead38, hs⟩ := hs
            refine x_get (v := .ref ad38) X hK hI 0 7 rfl in_X0 rfl q335 rfl (xgr_spec ead38) dX0_child_80 ?_
            obtain ⟨v39, ev39, hs⟩ := hs
            refine x_get (v := .int v39) X hK hI 4 0 rfl in_X4 rfl q252 rfl (xgi_spec ev39) dX0_child_83 ?_
            refine lv_iconst (v := 1) hx hb dX0_child_86 (by decide) ?_
            refine lv_isub hx hb dX0_child_87 ?_
            exact vx_ret (x_reti X hK hI hs (Nat.le_of_ble_eq_true rfl) (Nat.le_of_ble_eq_true rfl) dX0_child_88)
        refine lv_icmp_ge (tgt := 63) hx hb dX0_child_56 (by decide) (fun c44 => ?_) (fun c44 => ?_)
        · replace hs := ifp c44 hs
          refine lv_iconst (v := 0) hx hb dX0_child_63 (by decide) ?_
          exact Ek64_33 _ _ _ _ hs hI hl
        · replace hs := ifn c44 hs
          refine lv_iconst (v := 1) hx hb dX0_child_59 (by decide) ?_
          refine lv_goto (tgt := 64) hx hb dX0_child_60 (by decide) ?_
          exact Ek64_33 _ _ _ _ hs hI hl
    refine lv_if_eq (tgt := 41) hx hb dX0_child_22 (by decide) (fun c53 => ?_) (fun c53 => ?_)
    · replace hs := ifp c53 hs
      exact Ek41_6 _ _ _ _ hs hI hl
    · replace hs := ifn c53 hs
      refine lv_iload_n hx hb dX0_child_25 rfl (lv_at hl 3 rfl) ?_
      refine lv_i2l (v := ((a3 : Int32).toInt64)) hx hb dX0_child_26 rfl ?_
      refine lv_lconst (v := 1) hx hb dX0_child_27 (by decide) ?_
      refine lv_ldc2 hx hb hown (hts _ q775) dX0_child_28 ?_
      refine x_goz hA hI (x_runS (As := [.long ((a3 : Int32).toInt64), .long 1, .long 9]) (rest := []) X hK hA hG hI (xet_X0_in l ((a3 : Int32).toInt64) 1 9 _ _ hs) iX0_in q473 q474 q94 ⟨(Nat.le_of_ble_eq_true rfl), (Nat.le_of_ble_eq_true rfl)⟩ rfl hl.1 rfl (Nat.le_of_ble_eq_true rfl) dX0_child_31 ⟨(Nat.le_of_ble_eq_true rfl), (Nat.le_of_ble_eq_true rfl)⟩) (fun r52 C51 H locs br52 hs9 hI => ?_)
      replace hs := hs9
      refine lv_if_eq (tgt := 41) hx hb dX0_child_34 (by decide) (fun c52 => ?_) (fun c52 => ?_)
      · replace hs := ifp c52 hs
        exact Ek41_6 _ _ _ _ hs hI hl
      · replace hs := ifn c52 hs
        refine lv_iconst (v := 1) hx hb dX0_child_37 (by decide) ?_
        refine lv_goto (tgt := 42) hx hb dX0_child_38 (by decide) ?_
        exact Ek42_29 _ _ _ _ _ hs hI hl
def x_X4_addSack (a0 : Nat) (a1 : Int32) (a2 : Int32) (C : XH) (K : XH → Prop) : Prop := obd (xgr C (xis 4) a0 11) (fun ad1 => obd (xgi C (xis 4) a0 1) (fun v2 => obd (xsi C ad1 v2 a1) (fun C3 => obd (xgr C3 (xis 4) a0 12) (fun ad4 => obd (xgi C3 (xis 4) a0 1) (fun v5 => obd (xsi C3 ad4 v5 a2) (fun C6 => obd (xgi C6 (xis 4) a0 1) (fun v7 => obd (xpv C6 (xis 4) a0 1 (.int (v7 + 1))) (fun C8 => K C8))))))))
theorem iX4_addSack : xInf yX4_addSack cX4_addSack 3 none 2 := ⟨q869, by decide +kernel⟩
set_option maxHeartbeats 4000000 in
theorem xet_X4_addSack (l : Launch) (a0 : Nat) (a1 : Int32) (a2 : Int32) (C : XH) (K : XH → Prop) (hs : x_X4_addSack a0 a1 a2 C K) : xMetv l yX4_addSack (ws_ yX4_addSack cX4_addSack 3 none) 0 0 0 0 C [.ref a0, .int a1, .int a2] K := by
  intro D dT adK adV sz
  refine xEnter (own := RX4) (Qc := xQv D dT K) (by decide) rfl (by rfl) ?_
  intro p e s m args below meth c A ls X hnm hK hA hG hI hl
  have hx := X.1
  have hb := X.2.1
  have hts := X.2.2.2.2.1
  have hown := X.2.2.2.2.2.1
  have hl : lv_has ls 3 [(0, .ref a0), (1, .int a1), (2, .int a2)] := hl
  unfold x_X4_addSack at hs
  refine lv_aload_n hx hb dX4_addSack_0 rfl (lv_at hl 0 rfl) ?_
  obtain ⟨ad1, ead1, hs⟩ := hs
  refine x_get (v := .ref ad1) X hK hI 4 11 rfl in_X4 rfl q287 rfl (xgr_spec ead1) dX4_addSack_1 ?_
  refine lv_aload_n hx hb dX4_addSack_4 rfl (lv_at hl 0 rfl) ?_
  obtain ⟨v2, ev2, hs⟩ := hs
  refine x_get (v := .int v2) X hK hI 4 1 rfl in_X4 rfl q254 rfl (xgi_spec ev2) dX4_addSack_5 ?_
  refine lv_iload_n hx hb dX4_addSack_8 rfl (lv_at hl 1 rfl) ?_
  obtain ⟨C3, eC3, hs⟩ := hs
  refine x_iast X hK hI eC3 dX4_addSack_9 (fun H locs hI => ?_)
  refine lv_aload_n hx hb dX4_addSack_10 rfl (lv_at hl 0 rfl) ?_
  obtain ⟨ad4, ead4, hs⟩ := hs
  refine x_get (v := .ref ad4) X hK hI 4 12 rfl in_X4 rfl q289 rfl (xgr_spec ead4) dX4_addSack_11 ?_
  refine lv_aload_n hx hb dX4_addSack_14 rfl (lv_at hl 0 rfl) ?_
  obtain ⟨v5, ev5, hs⟩ := hs
  refine x_get (v := .int v5) X hK hI 4 1 rfl in_X4 rfl q254 rfl (xgi_spec ev5) dX4_addSack_15 ?_
  refine lv_iload_n hx hb dX4_addSack_18 rfl (lv_at hl 2 rfl) ?_
  obtain ⟨C6, eC6, hs⟩ := hs
  refine x_iast X hK hI eC6 dX4_addSack_19 (fun H locs hI => ?_)
  refine lv_aload_n hx hb dX4_addSack_20 rfl (lv_at hl 0 rfl) ?_
  refine lv_dup hx hb dX4_addSack_21 rfl ?_
  obtain ⟨v7, ev7, hs⟩ := hs
  refine x_get (v := .int v7) X hK hI 4 1 rfl in_X4 rfl q254 rfl (xgi_spec ev7) dX4_addSack_22 ?_
  refine lv_iconst (v := 1) hx hb dX4_addSack_25 (by decide) ?_
  refine lv_iadd hx hb dX4_addSack_26 ?_
  obtain ⟨C8, eC8, hs⟩ := hs
  refine x_put X hK hI 4 1 rfl in_X4 tyX4 tyX4_ok nmX4 rfl q254 rfl rfl rfl rfl eC8 dX4_addSack_27 (fun H locs hI => ?_)
  exact x_retv X hK hI hs (Nat.le_of_ble_eq_true rfl) (Nat.le_of_ble_eq_true rfl) dX4_addSack_30
def x_X0_sack (a0 : Nat) (a1 : Int32) (a2 : Int32) (C : XH) (K : Int32 → XH → Prop) : Prop := x_X0_in ((a1 : Int32).toInt64) 1 9 C (fun r2 C1 => jn (fun (C3 : XH) => x_X0_need 0 (-6) C3 (fun C4 => obd (xgr C4 (xis 0) a0 7) (fun ad5 => obd (xgi C4 (xis 4) ad5 1) (fun v6 => jn (fun (v7 : Int32) => x_X0_need v7 (-7) C4 (fun C8 => obd (xgr C8 (xis 0) a0 7) (fun ad9 => (xcl C8 ad9 = some 4 ∧ x_X4_addSack ad9 a1 a2 C8 (fun C10 => obd (xgr C10 (xis 0) a0 7) (fun ad12 => obd (xgi C10 (xis 4) ad12 1) (fun v13 => K (v13 - 1) C10)))))) (fun ad14 C15 => (xcl C15 a0 = some 0 ∧ x_X0_refused a0 ad14 C15 (fun r17 C16 => K r17 C16)))) (fun k51_7 => (if 8 ≤ v6 then k51_7 0 else k51_7 1))))) (fun ad20 C21 => (xcl C21 a0 = some 0 ∧ x_X0_refused a0 ad20 C21 (fun r23 C22 => K r23 C22)))) (fun k28_3 => jn (fun (v25 : Int32) (C26 : XH) => x_X0_need v25 (-6) C26 (fun C27 => obd (xgr C27 (xis 0) a0 7) (fun ad28 => obd (xgi C27 (xis 4) ad28 1) (fun v29 => jn (fun (v30 : Int32) => x_X0_need v30 (-7) C27 (fun C31 => obd (xgr C31 (xis 0) a0 7) (fun ad32 => (xcl C31 ad32 = some 4 ∧ x_X4_addSack ad32 a1 a2 C31 (fun C33 => obd (xgr C33 (xis 0) a0 7) (fun ad35 => obd (xgi C33 (xis 4) ad35 1) (fun v36 => K (v36 - 1) C33)))))) (fun ad37 C38 => (xcl C38 a0 = some 0 ∧ x_X0_refused a0 ad37 C38 (fun r40 C39 => K r40 C39)))) (fun k51_30 => (if 8 ≤ v29 then k51_30 0 else k51_30 1))))) (fun ad43 C44 => (xcl C44 a0 = some 0 ∧ x_X0_refused a0 ad43 C44 (fun r46 C45 => K r46 C45)))) (fun k29_26 => (if r2 = 0 then k28_3 C1 else x_X0_in ((a2 : Int32).toInt64) 0 9 C1 (fun r49 C48 => (if r49 = 0 then k28_3 C48 else k29_26 1 C48))))))
theorem iX0_sack : xInfW yX0_sack cX0_sack 4 (some .int) [(0, 74, 75, 21)] 2 := ⟨q865, by decide +kernel⟩
set_option maxHeartbeats 4000000 in
theorem xet_X0_sack (l : Launch) (hl0 : l.stackTraces = false) (a0 : Nat) (a1 : Int32) (a2 : Int32) (C : XH) (K : Int32 → XH → Prop) (hs : x_X0_sack a0 a1 a2 C K) : xMetX l yX0_sack (wsW_ yX0_sack cX0_sack 4 (some .int) [(0, 74, 75, 21)]) 5 114 2 14 C [.ref a0, .int a1, .int a2] (fun D dT A => xQi D dT K A) xE0 := by
  intro D dT adK adV sz
  refine xEnterW (own := RX0) (Qc := xQi D dT K) (XC := xXC D dT xE0) (by decide) rfl (by rfl) ?_
  intro p e s m args below meth c A ls X hnm hK hA hG hT hI hl
  have hx := X.1
  have hb := X.2.1
  have hts := X.2.2.2.2.1
  have hown := X.2.2.2.2.2.1
  have hl : lv_has ls 4 [(0, .ref a0), (1, .int a1), (2, .int a2)] := hl
  unfold x_X0_sack at hs
  refine lv_iload_n hx hb dX0_sack_0 rfl (lv_at hl 1 rfl) ?_
  refine lv_i2l (v := ((a1 : Int32).toInt64)) hx hb dX0_sack_1 rfl ?_
  refine lv_lconst (v := 1) hx hb dX0_sack_2 (by decide) ?_
  refine lv_ldc2 hx hb hown (hts _ q775) dX0_sack_3 ?_
  refine x_goz hA hI (x_runS (As := [.long ((a1 : Int32).toInt64), .long 1, .long 9]) (rest := []) X hK hA hG hI (xet_X0_in l ((a1 : Int32).toInt64) 1 9 _ _ hs) iX0_in q473 q474 q94 ⟨(Nat.le_of_ble_eq_true rfl), (Nat.le_of_ble_eq_true rfl)⟩ rfl hl.1 rfl (Nat.le_of_ble_eq_true rfl) dX0_sack_6 ⟨(Nat.le_of_ble_eq_true rfl), (Nat.le_of_ble_eq_true rfl)⟩) (fun r2 C1 H locs br2 hs9 hI => ?_)
  replace hs := hs9
  obtain ⟨k28_3, hk28_3, hs⟩ := jn_ex hs
  have Ek28_3 : ∀ (C3 : XH) (H : Heap) (locs : List Loc) (ls : Array Slot), k28_3 C3 → xI D dT A s.heap C3 H locs → lv_has ls 4 [(0, .ref a0), (1, .int a1), (2, .int a2)] → W p l e (xRm 5 114 2 14) s m args below meth c H locs 0 0 (vx_MQ below (xQi D dT K A) (xXC D dT xE0 A) args s 2 14 A) (F0 m 28 ls []) := by
    intro C3 H locs ls hs hI hl
    rw [hk28_3] at hs
    refine lv_iconst (v := 0) hx hb dX0_sack_28 (by decide) ?_
    refine lv_bipush (v := (-6)) hx hb dX0_sack_29 (by decide) ?_
    refine xT_gov hA hI (x_runST (As := [.int 0, .int (-6)]) (rest := []) X hK hA hG hI (xet_X0_need l hl0 0 (-6) _ _ _ hs) iX0_need q469 q470 q94 ⟨(Nat.le_of_ble_eq_true rfl), (Nat.le_of_ble_eq_true rfl)⟩ rfl hl.1 rfl (Nat.le_of_ble_eq_true rfl) dX0_sack_31 ⟨(Nat.le_of_ble_eq_true rfl), (Nat.le_of_ble_eq_true rfl)⟩) (fun En ce ad20 C21 H locs hs9 hI hce hvm hcl => ?_) (fun C4 H locs hs9 hI => ?_)
    · obtain ⟨rfl, hs0⟩ := hs9
      replace hs := hs0
      refine x_catch (k := 0) (a1 := 0) (a2 := 74) (a3 := 75) (a4 := 21) X hG hT rfl (x_cov rfl) rfl (by decide) q363 (by decide) hce hvm hcl ?_
      refine lv_astore_n (lv' := [(3, .ref ad20), (0, .ref a0), (1, .int a1), (2, .int a2)]) hx hb dX0_sack_75 rfl hl (by decide) rfl (fun ls hl => ?_)
      refine lv_aload_n hx hb dX0_sack_76 rfl (lv_at hl 1 rfl) ?_
      refine lv_aload_n hx hb dX0_sack_77 rfl (lv_at hl 0 rfl) ?_
      obtain ⟨h23, hs⟩ := hs
      obtain ⟨fh23, h23⟩ := xcl_spec h23
      refine x_goi hA hI (x_runV (As := [.ref ad20]) (rest := []) X hK hA hG hI h23 (q := (RX0, TX0, 10)) rfl rfl (xet_X0_refused l a0 ad20 _ _ hs) iX0_refused q538 q540 qs2 q94 ⟨(Nat.le_of_ble_eq_true rfl), (Nat.le_of_ble_eq_true rfl)⟩ rfl hl.1 rfl (Nat.le_of_ble_eq_true rfl) dX0_sack_78 ⟨(Nat.le_of_ble_eq_true rfl), (Nat.le_of_ble_eq_true rfl)⟩) (fun r23 C22 H locs hs9 hI => ?_)
      replace hs := hs9
      exact vx_ret (x_reti X hK hI hs (Nat.le_of_ble_eq_true rfl) (Nat.le_of_ble_eq_true rfl) dX0_sack_81)
    · replace hs := hs9
      refine lv_aload_n hx hb dX0_sack_34 rfl (lv_at hl 0 rfl) ?_
      obtain ⟨ad5, ead5, hs⟩ := hs
      refine x_get (v := .ref ad5) X hK hI 0 7 rfl in_X0 rfl q335 rfl (xgr_spec ead5) dX0_sack_35 ?_
      obtain ⟨v6, ev6, hs⟩ := hs
      refine x_get (v := .int v6) X hK hI 4 1 rfl in_X4 rfl q257 rfl (xgi_spec ev6) dX0_sack_38 ?_
      refine lv_bipush (v := 8) hx hb dX0_sack_41 (by decide) ?_
      obtain ⟨k51_7, hk51_7, hs⟩ := jn_ex hs
      have Ek51_7 : ∀ (v7 : Int32) (H : Heap) (locs : List Loc) (ls : Array Slot), k51_7 v7 → xI D dT A s.heap C4 H locs → lv_has ls 4 [(0, .ref a0), (1, .int a1), (2, .int a2)] → W p l e (xRm 5 114 2 14) s m args below meth c H locs 1 7 (vx_MQ below (xQi D dT K A) (xXC D dT xE0 A) args s 2 14 A) (F0 m 51 ls [.int v7]) := by
        intro v7 H locs ls hs hI hl
        rw [hk51_7] at hs
        refine lv_bipush (v := (-7)) hx hb dX0_sack_51 (by decide) ?_
        refine xT_gov hA hI (x_runST (As := [.int v7, .int (-7)]) (rest := []) X hK hA hG hI (xet_X0_need l hl0 v7 (-7) _ _ _ hs) iX0_need q469 q470 q94 ⟨(Nat.le_of_ble_eq_true rfl), (Nat.le_of_ble_eq_true rfl)⟩ rfl hl.1 rfl (Nat.le_of_ble_eq_true rfl) dX0_sack_53 ⟨(Nat.le_of_ble_eq_true rfl), (Nat.le_of_ble_eq_true rfl)⟩) (fun En ce ad14 C15 H locs hs9 hI hce hvm hcl => ?_) (fun C8 H locs hs9 hI => ?_)
        · obtain ⟨rfl, hs0⟩ := hs9
          replace hs := hs0
          refine x_catch (k := 0) (a1 := 0) (a2 := 74) (a3 := 75) (a4 := 21) X hG hT rfl (x_cov rfl) rfl (by decide) q363 (by decide) hce hvm hcl ?_
          refine lv_astore_n (lv' := [(3, .ref ad14), (0, .ref a0), (1, .int a1), (2, .int a2)]) hx hb dX0_sack_75 rfl hl (by decide) rfl (fun ls hl => ?_)
          refine lv_aload_n hx hb dX0_sack_76 rfl (lv_at hl 1 rfl) ?_
          refine lv_aload_n hx hb dX0_sack_77 rfl (lv_at hl 0 rfl) ?_
          obtain ⟨h17, hs⟩ := hs
          obtain ⟨fh17, h17⟩ := xcl_spec h17
          refine x_goi hA hI (x_runV (As := [.ref ad14]) (rest := []) X hK hA hG hI h17 (q := (RX0, TX0, 10)) rfl rfl (xet_X0_refused l a0 ad14 _ _ hs) iX0_refused q538 q540 qs2 q94 ⟨(Nat.le_of_ble_eq_true rfl), (Nat.le_of_ble_eq_true rfl)⟩ rfl hl.1 rfl (Nat.le_of_ble_eq_true rfl) dX0_sack_78 ⟨(Nat.le_of_ble_eq_true rfl), (Nat.le_of_ble_eq_true rfl)⟩) (fun r17 C16 H locs hs9 hI => ?_)
          replace hs := hs9
          exact vx_ret (x_reti X hK hI hs (Nat.le_of_ble_eq_true rfl) (Nat.le_of_ble_eq_true rfl) dX0_sack_81)
        · replace hs := hs9
          refine lv_aload_n hx hb dX0_sack_56 rfl (lv_at hl 0 rfl) ?_
          obtain ⟨ad9, ead9, hs⟩ := hs
          refine x_get (v := .ref ad9) X hK hI 0 7 rfl in_X0 rfl q335 rfl (xgr_spec ead9) dX0_sack_57 ?_
          refine lv_iload_n hx hb dX0_sack_60 rfl (lv_at hl 1 rfl) ?_
          refine lv_iload_n hx hb dX0_sack_61 rfl (lv_at hl 2 rfl) ?_
          obtain ⟨h10, hs⟩ := hs
          obtain ⟨fh10, h10⟩ := xcl_spec h10
          refine x_gov hA hI (x_runV (As := [.int a1, .int a2]) (rest := []) X hK hA hG hI h10 (q := (RX4, TX4, 13)) rfl rfl (xet_X4_addSack l ad9 a1 a2 _ _ hs) iX4_addSack q866 q867 q868 q98 ⟨(Nat.le_of_ble_eq_true rfl), (Nat.le_of_ble_eq_true rfl)⟩ rfl hl.1 rfl (Nat.le_of_ble_eq_true rfl) dX0_sack_62 ⟨(Nat.le_of_ble_eq_true rfl), (Nat.le_of_ble_eq_true rfl)⟩) (fun C10 H locs hs9 hI => ?_)
          replace hs := hs9
          refine lv_aload_n hx hb dX0_sack_65 rfl (lv_at hl 0 rfl) ?_
          obtain ⟨ad12, ead12, hs⟩ := hs
          refine x_get (v := .ref ad12) X hK hI 0 7 rfl in_X0 rfl q335 rfl (xgr_spec ead12) dX0_sack_66 ?_
          obtain ⟨v13, ev13, hs⟩ := hs
          refine x_get (v := .int v13) X hK hI 4 1 rfl in_X4 rfl q257 rfl (xgi_spec ev13) dX0_sack_69 ?_
          refine lv_iconst (v := 1) hx hb dX0_sack_72 (by decide) ?_
          refine lv_isub hx hb dX0_sack_73 ?_
          exact vx_ret (x_reti X hK hI hs (Nat.le_of_ble_eq_true rfl) (Nat.le_of_ble_eq_true rfl) dX0_sack_74)
      refine lv_icmp_ge (tgt := 50) hx hb dX0_sack_43 (by decide) (fun c18 => ?_) (fun c18 => ?_)
      · replace hs := ifp c18 hs
        refine lv_iconst (v := 0) hx hb dX0_sack_50 (by decide) ?_
        exact Ek51_7 _ _ _ _ hs hI hl
      · replace hs := ifn c18 hs
        refine lv_iconst (v := 1) hx hb dX0_sack_46 (by decide) ?_
        refine lv_goto (tgt := 51) hx hb dX0_sack_47 (by decide) ?_
        exact Ek51_7 _ _ _ _ hs hI hl
  obtain ⟨k29_26, hk29_26, hs⟩ := jn_ex hs
  have Ek29_26 : ∀ (v25 : Int32) (C26 : XH) (H : Heap) (locs : List Loc) (ls : Array Slot), k29_26 v25 C26 → xI D dT A s.heap C26 H locs → lv_has ls 4 [(0, .ref a0), (1, .int a1), (2, .int a2)] → W p l e (xRm 5 114 2 14) s m args below meth c H locs 0 0 (vx_MQ below (xQi D dT K A) (xXC D dT xE0 A) args s 2 14 A) (F0 m 29 ls [.int v25]) := by
    intro v25 C26 H locs ls hs hI hl
    rw [hk29_26] at hs
    refine lv_bipush (v := (-6)) hx hb dX0_sack_29 (by decide) ?_
    refine xT_gov hA hI (x_runST (As := [.int v25, .int (-6)]) (rest := []) X hK hA hG hI (xet_X0_need l hl0 v25 (-6) _ _ _ hs) iX0_need q469 q470 q94 ⟨(Nat.le_of_ble_eq_true rfl), (Nat.le_of_ble_eq_true rfl)⟩ rfl hl.1 rfl (Nat.le_of_ble_eq_true rfl) dX0_sack_31 ⟨(Nat.le_of_ble_eq_true rfl), (Nat.le_of_ble_eq_true rfl)⟩) (fun En ce ad43 C44 H locs hs9 hI hce hvm hcl => ?_) (fun C27 H locs hs9 hI => ?_)
    · obtain ⟨rfl, hs0⟩ := hs9
      replace hs := hs0
      refine x_catch (k := 0) (a1 := 0) (a2 := 74) (a3 := 75) (a4 := 21) X hG hT rfl (x_cov rfl) rfl (by decide) q363 (by decide) hce hvm hcl ?_
      refine lv_astore_n (lv' := [(3, .ref ad43), (0, .ref a0), (1, .int a1), (2, .int a2)]) hx hb dX0_sack_75 rfl hl (by decide) rfl (fun ls hl => ?_)
      refine lv_aload_n hx hb dX0_sack_76 rfl (lv_at hl 1 rfl) ?_
      refine lv_aload_n hx hb dX0_sack_77 rfl (lv_at hl 0 rfl) ?_
      obtain ⟨h46, hs⟩ := hs
      obtain ⟨fh46, h46⟩ := xcl_spec h46
      refine x_goi hA hI (x_runV (As := [.ref ad43]) (rest := []) X hK hA hG hI h46 (q := (RX0, TX0, 10)) rfl rfl (xet_X0_refused l a0 ad43 _ _ hs) iX0_refused q538 q540 qs2 q94 ⟨(Nat.le_of_ble_eq_true rfl), (Nat.le_of_ble_eq_true rfl)⟩ rfl hl.1 rfl (Nat.le_of_ble_eq_true rfl) dX0_sack_78 ⟨(Nat.le_of_ble_eq_true rfl), (Nat.le_of_ble_eq_true rfl)⟩) (fun r46 C45 H locs hs9 hI => ?_)
      replace hs := hs9
      exact vx_ret (x_reti X hK hI hs (Nat.le_of_ble_eq_true rfl) (Nat.le_of_ble_eq_true rfl) dX0_sack_81)
    · replace hs := hs9
      refine lv_aload_n hx hb dX0_sack_34 rfl (lv_at hl 0 rfl) ?_
      obtain ⟨ad28, ead28, hs⟩ := hs
      refine x_get (v := .ref ad28) X hK hI 0 7 rfl in_X0 rfl q335 rfl (xgr_spec ead28) dX0_sack_35 ?_
      obtain ⟨v29, ev29, hs⟩ := hs
      refine x_get (v := .int v29) X hK hI 4 1 rfl in_X4 rfl q257 rfl (xgi_spec ev29) dX0_sack_38 ?_
      refine lv_bipush (v := 8) hx hb dX0_sack_41 (by decide) ?_
      obtain ⟨k51_30, hk51_30, hs⟩ := jn_ex hs
      have Ek51_30 : ∀ (v30 : Int32) (H : Heap) (locs : List Loc) (ls : Array Slot), k51_30 v30 → xI D dT A s.heap C27 H locs → lv_has ls 4 [(0, .ref a0), (1, .int a1), (2, .int a2)] → W p l e (xRm 5 114 2 14) s m args below meth c H locs 1 7 (vx_MQ below (xQi D dT K A) (xXC D dT xE0 A) args s 2 14 A) (F0 m 51 ls [.int v30]) := by
        intro v30 H locs ls hs hI hl
        rw [hk51_30] at hs
        refine lv_bipush (v := (-7)) hx hb dX0_sack_51 (by decide) ?_
        refine xT_gov hA hI (x_runST (As := [.int v30, .int (-7)]) (rest := []) X hK hA hG hI (xet_X0_need l hl0 v30 (-7) _ _ _ hs) iX0_need q469 q470 q94 ⟨(Nat.le_of_ble_eq_true rfl), (Nat.le_of_ble_eq_true rfl)⟩ rfl hl.1 rfl (Nat.le_of_ble_eq_true rfl) dX0_sack_53 ⟨(Nat.le_of_ble_eq_true rfl), (Nat.le_of_ble_eq_true rfl)⟩) (fun En ce ad37 C38 H locs hs9 hI hce hvm hcl => ?_) (fun C31 H locs hs9 hI => ?_)
        · obtain ⟨rfl, hs0⟩ := hs9
          replace hs := hs0
          refine x_catch (k := 0) (a1 := 0) (a2 := 74) (a3 := 75) (a4 := 21) X hG hT rfl (x_cov rfl) rfl (by decide) q363 (by decide) hce hvm hcl ?_
          refine lv_astore_n (lv' := [(3, .ref ad37), (0, .ref a0), (1, .int a1), (2, .int a2)]) hx hb dX0_sack_75 rfl hl (by decide) rfl (fun ls hl => ?_)
          refine lv_aload_n hx hb dX0_sack_76 rfl (lv_at hl 1 rfl) ?_
          refine lv_aload_n hx hb dX0_sack_77 rfl (lv_at hl 0 rfl) ?_
          obtain ⟨h40, hs⟩ := hs
          obtain ⟨fh40, h40⟩ := xcl_spec h40
          refine x_goi hA hI (x_runV (As := [.ref ad37]) (rest := []) X hK hA hG hI h40 (q := (RX0, TX0, 10)) rfl rfl (xet_X0_refused l a0 ad37 _ _ hs) iX0_refused q538 q540 qs2 q94 ⟨(Nat.le_of_ble_eq_true rfl), (Nat.le_of_ble_eq_true rfl)⟩ rfl hl.1 rfl (Nat.le_of_ble_eq_true rfl) dX0_sack_78 ⟨(Nat.le_of_ble_eq_true rfl), (Nat.le_of_ble_eq_true rfl)⟩) (fun r40 C39 H locs hs9 hI => ?_)
          replace hs := hs9
          exact vx_ret (x_reti X hK hI hs (Nat.le_of_ble_eq_true rfl) (Nat.le_of_ble_eq_true rfl) dX0_sack_81)
        · replace hs := hs9
          refine lv_aload_n hx hb dX0_sack_56 rfl (lv_at hl 0 rfl) ?_
          obtain ⟨ad32, ead32, hs⟩ := hs
          refine x_get (v := .ref ad32) X hK hI 0 7 rfl in_X0 rfl q335 rfl (xgr_spec ead32) dX0_sack_57 ?_
          refine lv_iload_n hx hb dX0_sack_60 rfl (lv_at hl 1 rfl) ?_
          refine lv_iload_n hx hb dX0_sack_61 rfl (lv_at hl 2 rfl) ?_
          obtain ⟨h33, hs⟩ := hs
          obtain ⟨fh33, h33⟩ := xcl_spec h33
          refine x_gov hA hI (x_runV (As := [.int a1, .int a2]) (rest := []) X hK hA hG hI h33 (q := (RX4, TX4, 13)) rfl rfl (xet_X4_addSack l ad32 a1 a2 _ _ hs) iX4_addSack q866 q867 q868 q98 ⟨(Nat.le_of_ble_eq_true rfl), (Nat.le_of_ble_eq_true rfl)⟩ rfl hl.1 rfl (Nat.le_of_ble_eq_true rfl) dX0_sack_62 ⟨(Nat.le_of_ble_eq_true rfl), (Nat.le_of_ble_eq_true rfl)⟩) (fun C33 H locs hs9 hI => ?_)
          replace hs := hs9
          refine lv_aload_n hx hb dX0_sack_65 rfl (lv_at hl 0 rfl) ?_
          obtain ⟨ad35, ead35, hs⟩ := hs
          refine x_get (v := .ref ad35) X hK hI 0 7 rfl in_X0 rfl q335 rfl (xgr_spec ead35) dX0_sack_66 ?_
          obtain ⟨v36, ev36, hs⟩ := hs
          refine x_get (v := .int v36) X hK hI 4 1 rfl in_X4 rfl q257 rfl (xgi_spec ev36) dX0_sack_69 ?_
          refine lv_iconst (v := 1) hx hb dX0_sack_72 (by decide) ?_
          refine lv_isub hx hb dX0_sack_73 ?_
          exact vx_ret (x_reti X hK hI hs (Nat.le_of_ble_eq_true rfl) (Nat.le_of_ble_eq_true rfl) dX0_sack_74)
      refine lv_icmp_ge (tgt := 50) hx hb dX0_sack_43 (by decide) (fun c41 => ?_) (fun c41 => ?_)
      · replace hs := ifp c41 hs
        refine lv_iconst (v := 0) hx hb dX0_sack_50 (by decide) ?_
        exact Ek51_30 _ _ _ _ hs hI hl
      · replace hs := ifn c41 hs
        refine lv_iconst (v := 1) hx hb dX0_sack_46 (by decide) ?_
        refine lv_goto (tgt := 51) hx hb dX0_sack_47 (by decide) ?_
        exact Ek51_30 _ _ _ _ hs hI hl
  refine lv_if_eq (tgt := 28) hx hb dX0_sack_9 (by decide) (fun c50 => ?_) (fun c50 => ?_)
  · replace hs := ifp c50 hs
    exact Ek28_3 _ _ _ _ hs hI hl
  · replace hs := ifn c50 hs
    refine lv_iload_n hx hb dX0_sack_12 rfl (lv_at hl 2 rfl) ?_
    refine lv_i2l (v := ((a2 : Int32).toInt64)) hx hb dX0_sack_13 rfl ?_
    refine lv_lconst (v := 0) hx hb dX0_sack_14 (by decide) ?_
    refine lv_ldc2 hx hb hown (hts _ q775) dX0_sack_15 ?_
    refine x_goz hA hI (x_runS (As := [.long ((a2 : Int32).toInt64), .long 0, .long 9]) (rest := []) X hK hA hG hI (xet_X0_in l ((a2 : Int32).toInt64) 0 9 _ _ hs) iX0_in q473 q474 q94 ⟨(Nat.le_of_ble_eq_true rfl), (Nat.le_of_ble_eq_true rfl)⟩ rfl hl.1 rfl (Nat.le_of_ble_eq_true rfl) dX0_sack_18 ⟨(Nat.le_of_ble_eq_true rfl), (Nat.le_of_ble_eq_true rfl)⟩) (fun r49 C48 H locs br49 hs9 hI => ?_)
    replace hs := hs9
    refine lv_if_eq (tgt := 28) hx hb dX0_sack_21 (by decide) (fun c49 => ?_) (fun c49 => ?_)
    · replace hs := ifp c49 hs
      exact Ek28_3 _ _ _ _ hs hI hl
    · replace hs := ifn c49 hs
      refine lv_iconst (v := 1) hx hb dX0_sack_24 (by decide) ?_
      refine lv_goto (tgt := 29) hx hb dX0_sack_25 (by decide) ?_
      exact Ek29_26 _ _ _ _ _ hs hI hl
def x_X16_kind (a0 : Nat) (C : XH) (K : Int32 → XH → Prop) : Prop := K 3 C
theorem iX16_kind : xInf yX16_kind cX16_kind 1 (some .int) 0 := ⟨q884, by decide +kernel⟩
set_option maxHeartbeats 4000000 in
theorem xet_X16_kind (l : Launch) (a0 : Nat) (C : XH) (K : Int32 → XH → Prop) (hs : x_X16_kind a0 C K) : xMeti l yX16_kind (ws_ yX16_kind cX16_kind 1 (some .int)) 0 0 0 0 C [.ref a0] K := by
  intro D dT adK adV sz
  refine xEnter (own := RX16) (Qc := xQi D dT K) (by decide) rfl (by rfl) ?_
  intro p e s m args below meth c A ls X hnm hK hA hG hI hl
  have hx := X.1
  have hb := X.2.1
  have hts := X.2.2.2.2.1
  have hown := X.2.2.2.2.2.1
  have hl : lv_has ls 1 [(0, .ref a0)] := hl
  unfold x_X16_kind at hs
  refine lv_iconst (v := 3) hx hb dX16_kind_0 (by decide) ?_
  exact x_reti X hK hI hs (Nat.le_of_ble_eq_true rfl) (Nat.le_of_ble_eq_true rfl) dX16_kind_1
def x_X14_kind (a0 : Nat) (C : XH) (K : Int32 → XH → Prop) : Prop := K 1 C
theorem iX14_kind : xInf yX14_kind cX14_kind 1 (some .int) 0 := ⟨q887, by decide +kernel⟩
set_option maxHeartbeats 4000000 in
theorem xet_X14_kind (l : Launch) (a0 : Nat) (C : XH) (K : Int32 → XH → Prop) (hs : x_X14_kind a0 C K) : xMeti l yX14_kind (ws_ yX14_kind cX14_kind 1 (some .int)) 0 0 0 0 C [.ref a0] K := by
  intro D dT adK adV sz
  refine xEnter (own := RX14) (Qc := xQi D dT K) (by decide) rfl (by rfl) ?_
  intro p e s m args below meth c A ls X hnm hK hA hG hI hl
  have hx := X.1
  have hb := X.2.1
  have hts := X.2.2.2.2.1
  have hown := X.2.2.2.2.2.1
  have hl : lv_has ls 1 [(0, .ref a0)] := hl
  unfold x_X14_kind at hs
  refine lv_iconst (v := 1) hx hb dX14_kind_0 (by decide) ?_
  exact x_reti X hK hI hs (Nat.le_of_ble_eq_true rfl) (Nat.le_of_ble_eq_true rfl) dX14_kind_1
def x_X15_kind (a0 : Nat) (C : XH) (K : Int32 → XH → Prop) : Prop := K 2 C
theorem iX15_kind : xInf yX15_kind cX15_kind 1 (some .int) 0 := ⟨q890, by decide +kernel⟩
set_option maxHeartbeats 4000000 in
theorem xet_X15_kind (l : Launch) (a0 : Nat) (C : XH) (K : Int32 → XH → Prop) (hs : x_X15_kind a0 C K) : xMeti l yX15_kind (ws_ yX15_kind cX15_kind 1 (some .int)) 0 0 0 0 C [.ref a0] K := by
  intro D dT adK adV sz
  refine xEnter (own := RX15) (Qc := xQi D dT K) (by decide) rfl (by rfl) ?_
  intro p e s m args below meth c A ls X hnm hK hA hG hI hl
  have hx := X.1
  have hb := X.2.1
  have hts := X.2.2.2.2.1
  have hown := X.2.2.2.2.2.1
  have hl : lv_has ls 1 [(0, .ref a0)] := hl
  unfold x_X15_kind at hs
  refine lv_iconst (v := 2) hx hb dX15_kind_0 (by decide) ?_
  exact x_reti X hK hI hs (Nat.le_of_ble_eq_true rfl) (Nat.le_of_ble_eq_true rfl) dX15_kind_1
def x_X15_puff (a0 : Nat) (C : XH) (K : Int32 → XH → Prop) : Prop := obd (xcl C a0) (fun ch2 => xisH ch2 = true ∧ x_X13_puff a0 C (fun r2 C1 => K (r2 + 2) C1))
theorem iX15_puff : xInf yX15_puff cX15_puff 1 (some .int) 0 := ⟨q904, by decide +kernel⟩
set_option maxHeartbeats 4000000 in
theorem xet_X15_puff (l : Launch) (a0 : Nat) (C : XH) (K : Int32 → XH → Prop) (hs : x_X15_puff a0 C K) : xMeti l yX15_puff (ws_ yX15_puff cX15_puff 1 (some .int)) 1 20 0 0 C [.ref a0] K := by
  intro D dT adK adV sz
  refine xEnter (own := RX15) (Qc := xQi D dT K) (by decide) rfl (by rfl) ?_
  intro p e s m args below meth c A ls X hnm hK hA hG hI hl
  have hx := X.1
  have hb := X.2.1
  have hts := X.2.2.2.2.1
  have hown := X.2.2.2.2.2.1
  have hl : lv_has ls 1 [(0, .ref a0)] := hl
  unfold x_X15_puff at hs
  refine lv_aload_n hx hb dX15_puff_0 rfl (lv_at hl 0 rfl) ?_
  obtain ⟨ch2, h2, gh2, hs⟩ := hs
  obtain ⟨fh2, h2⟩ := xcl_spec h2
  obtain ⟨ah2, gh2⟩ := x_aclH gh2
  refine x_goi hA hI (x_runSU (As := []) (rest := []) X hK hA hG hI h2 gh2 (xet_X13_puff l a0 _ _ hs) iX13_puff (by decide) q905 q2033 q723 q686 q117 ⟨(Nat.le_of_ble_eq_true rfl), (Nat.le_of_ble_eq_true rfl)⟩ rfl hl.1 rfl (Nat.le_of_ble_eq_true rfl) dX15_puff_1 ⟨(Nat.le_of_ble_eq_true rfl), (Nat.le_of_ble_eq_true rfl)⟩) (fun r2 C1 H locs hs9 hI => ?_)
  replace hs := hs9
  refine lv_iconst (v := 2) hx hb dX15_puff_4 (by decide) ?_
  refine lv_iadd hx hb dX15_puff_5 ?_
  exact x_reti X hK hI hs (Nat.le_of_ble_eq_true rfl) (Nat.le_of_ble_eq_true rfl) dX15_puff_6
def x_X18_kind (a0 : Nat) (C : XH) (K : Int32 → XH → Prop) : Prop := K 5 C
theorem iX18_kind : xInf yX18_kind cX18_kind 1 (some .int) 0 := ⟨q893, by decide +kernel⟩
set_option maxHeartbeats 4000000 in
theorem xet_X18_kind (l : Launch) (a0 : Nat) (C : XH) (K : Int32 → XH → Prop) (hs : x_X18_kind a0 C K) : xMeti l yX18_kind (ws_ yX18_kind cX18_kind 1 (some .int)) 0 0 0 0 C [.ref a0] K := by
  intro D dT adK adV sz
  refine xEnter (own := RX18) (Qc := xQi D dT K) (by decide) rfl (by rfl) ?_
  intro p e s m args below meth c A ls X hnm hK hA hG hI hl
  have hx := X.1
  have hb := X.2.1
  have hts := X.2.2.2.2.1
  have hown := X.2.2.2.2.2.1
  have hl : lv_has ls 1 [(0, .ref a0)] := hl
  unfold x_X18_kind at hs
  refine lv_iconst (v := 5) hx hb dX18_kind_0 (by decide) ?_
  exact x_reti X hK hI hs (Nat.le_of_ble_eq_true rfl) (Nat.le_of_ble_eq_true rfl) dX18_kind_1
def x_X18_puff (a0 : Nat) (C : XH) (K : Int32 → XH → Prop) : Prop := obd (xcl C a0) (fun ch2 => xisH ch2 = true ∧ x_X15_puff a0 C (fun r2 C1 => K (r2 + 1) C1))
theorem iX18_puff : xInf yX18_puff cX18_puff 1 (some .int) 0 := ⟨q907, by decide +kernel⟩
set_option maxHeartbeats 4000000 in
theorem xet_X18_puff (l : Launch) (a0 : Nat) (C : XH) (K : Int32 → XH → Prop) (hs : x_X18_puff a0 C K) : xMeti l yX18_puff (ws_ yX18_puff cX18_puff 1 (some .int)) 2 40 0 0 C [.ref a0] K := by
  intro D dT adK adV sz
  refine xEnter (own := RX18) (Qc := xQi D dT K) (by decide) rfl (by rfl) ?_
  intro p e s m args below meth c A ls X hnm hK hA hG hI hl
  have hx := X.1
  have hb := X.2.1
  have hts := X.2.2.2.2.1
  have hown := X.2.2.2.2.2.1
  have hl : lv_has ls 1 [(0, .ref a0)] := hl
  unfold x_X18_puff at hs
  refine lv_aload_n hx hb dX18_puff_0 rfl (lv_at hl 0 rfl) ?_
  obtain ⟨ch2, h2, gh2, hs⟩ := hs
  obtain ⟨fh2, h2⟩ := xcl_spec h2
  obtain ⟨ah2, gh2⟩ := x_aclH gh2
  refine x_goi hA hI (x_runSU (As := []) (rest := []) X hK hA hG hI h2 gh2 (xet_X15_puff l a0 _ _ hs) iX15_puff (by decide) q908 q2039 q848 q903 q119 ⟨(Nat.le_of_ble_eq_true rfl), (Nat.le_of_ble_eq_true rfl)⟩ rfl hl.1 rfl (Nat.le_of_ble_eq_true rfl) dX18_puff_1 ⟨(Nat.le_of_ble_eq_true rfl), (Nat.le_of_ble_eq_true rfl)⟩) (fun r2 C1 H locs hs9 hI => ?_)
  replace hs := hs9
  refine lv_iconst (v := 1) hx hb dX18_puff_4 (by decide) ?_
  refine lv_iadd hx hb dX18_puff_5 ?_
  exact x_reti X hK hI hs (Nat.le_of_ble_eq_true rfl) (Nat.le_of_ble_eq_true rfl) dX18_puff_6
def x_X13_kind (a0 : Nat) (C : XH) (K : Int32 → XH → Prop) : Prop := K 0 C
theorem iX13_kind : xInf yX13_kind cX13_kind 1 (some .int) 0 := ⟨q900, by decide +kernel⟩
set_option maxHeartbeats 4000000 in
theorem xet_X13_kind (l : Launch) (a0 : Nat) (C : XH) (K : Int32 → XH → Prop) (hs : x_X13_kind a0 C K) : xMeti l yX13_kind (ws_ yX13_kind cX13_kind 1 (some .int)) 0 0 0 0 C [.ref a0] K := by
  intro D dT adK adV sz
  refine xEnter (own := RX13) (Qc := xQi D dT K) (by decide) rfl (by rfl) ?_
  intro p e s m args below meth c A ls X hnm hK hA hG hI hl
  have hx := X.1
  have hb := X.2.1
  have hts := X.2.2.2.2.1
  have hown := X.2.2.2.2.2.1
  have hl : lv_has ls 1 [(0, .ref a0)] := hl
  unfold x_X13_kind at hs
  refine lv_iconst (v := 0) hx hb dX13_kind_0 (by decide) ?_
  exact x_reti X hK hI hs (Nat.le_of_ble_eq_true rfl) (Nat.le_of_ble_eq_true rfl) dX13_kind_1
def x_X17_kind (a0 : Nat) (C : XH) (K : Int32 → XH → Prop) : Prop := K 4 C
theorem iX17_kind : xInf yX17_kind cX17_kind 1 (some .int) 0 := ⟨q896, by decide +kernel⟩
set_option maxHeartbeats 4000000 in
theorem xet_X17_kind (l : Launch) (a0 : Nat) (C : XH) (K : Int32 → XH → Prop) (hs : x_X17_kind a0 C K) : xMeti l yX17_kind (ws_ yX17_kind cX17_kind 1 (some .int)) 0 0 0 0 C [.ref a0] K := by
  intro D dT adK adV sz
  refine xEnter (own := RX17) (Qc := xQi D dT K) (by decide) rfl (by rfl) ?_
  intro p e s m args below meth c A ls X hnm hK hA hG hI hl
  have hx := X.1
  have hb := X.2.1
  have hts := X.2.2.2.2.1
  have hown := X.2.2.2.2.2.1
  have hl : lv_has ls 1 [(0, .ref a0)] := hl
  unfold x_X17_kind at hs
  refine lv_iconst (v := 4) hx hb dX17_kind_0 (by decide) ?_
  exact x_reti X hK hI hs (Nat.le_of_ble_eq_true rfl) (Nat.le_of_ble_eq_true rfl) dX17_kind_1
def x_X17_puff (a0 : Nat) (C : XH) (K : Int32 → XH → Prop) : Prop := obd (xcl C a0) (fun ch2 => xisH ch2 = true ∧ x_X13_puff a0 C (fun r2 C1 => K (r2 + 1) C1))
theorem iX17_puff : xInf yX17_puff cX17_puff 1 (some .int) 0 := ⟨q910, by decide +kernel⟩
set_option maxHeartbeats 4000000 in
theorem xet_X17_puff (l : Launch) (a0 : Nat) (C : XH) (K : Int32 → XH → Prop) (hs : x_X17_puff a0 C K) : xMeti l yX17_puff (ws_ yX17_puff cX17_puff 1 (some .int)) 1 20 0 0 C [.ref a0] K := by
  intro D dT adK adV sz
  refine xEnter (own := RX17) (Qc := xQi D dT K) (by decide) rfl (by rfl) ?_
  intro p e s m args below meth c A ls X hnm hK hA hG hI hl
  have hx := X.1
  have hb := X.2.1
  have hts := X.2.2.2.2.1
  have hown := X.2.2.2.2.2.1
  have hl : lv_has ls 1 [(0, .ref a0)] := hl
  unfold x_X17_puff at hs
  refine lv_aload_n hx hb dX17_puff_0 rfl (lv_at hl 0 rfl) ?_
  obtain ⟨ch2, h2, gh2, hs⟩ := hs
  obtain ⟨fh2, h2⟩ := xcl_spec h2
  obtain ⟨ah2, gh2⟩ := x_aclH gh2
  refine x_goi hA hI (x_runSU (As := []) (rest := []) X hK hA hG hI h2 gh2 (xet_X13_puff l a0 _ _ hs) iX13_puff (by decide) q911 q2033 q765 q686 q117 ⟨(Nat.le_of_ble_eq_true rfl), (Nat.le_of_ble_eq_true rfl)⟩ rfl hl.1 rfl (Nat.le_of_ble_eq_true rfl) dX17_puff_1 ⟨(Nat.le_of_ble_eq_true rfl), (Nat.le_of_ble_eq_true rfl)⟩) (fun r2 C1 H locs hs9 hI => ?_)
  replace hs := hs9
  refine lv_iconst (v := 1) hx hb dX17_puff_4 (by decide) ?_
  refine lv_iadd hx hb dX17_puff_5 ?_
  exact x_reti X hK hI hs (Nat.le_of_ble_eq_true rfl) (Nat.le_of_ble_eq_true rfl) dX17_puff_6
def x_X19_kind (a0 : Nat) (C : XH) (K : Int32 → XH → Prop) : Prop := K 6 C
theorem iX19_kind : xInf yX19_kind cX19_kind 1 (some .int) 0 := ⟨q899, by decide +kernel⟩
set_option maxHeartbeats 4000000 in
theorem xet_X19_kind (l : Launch) (a0 : Nat) (C : XH) (K : Int32 → XH → Prop) (hs : x_X19_kind a0 C K) : xMeti l yX19_kind (ws_ yX19_kind cX19_kind 1 (some .int)) 0 0 0 0 C [.ref a0] K := by
  intro D dT adK adV sz
  refine xEnter (own := RX19) (Qc := xQi D dT K) (by decide) rfl (by rfl) ?_
  intro p e s m args below meth c A ls X hnm hK hA hG hI hl
  have hx := X.1
  have hb := X.2.1
  have hts := X.2.2.2.2.1
  have hown := X.2.2.2.2.2.1
  have hl : lv_has ls 1 [(0, .ref a0)] := hl
  unfold x_X19_kind at hs
  refine lv_bipush (v := 6) hx hb dX19_kind_0 (by decide) ?_
  exact x_reti X hK hI hs (Nat.le_of_ble_eq_true rfl) (Nat.le_of_ble_eq_true rfl) dX19_kind_2
def x_X19_puff (a0 : Nat) (C : XH) (K : Int32 → XH → Prop) : Prop := obd (xcl C a0) (fun ch2 => xisH ch2 = true ∧ x_X17_puff a0 C (fun r2 C1 => K (r2 - 1) C1))
theorem iX19_puff : xInf yX19_puff cX19_puff 1 (some .int) 0 := ⟨q913, by decide +kernel⟩
set_option maxHeartbeats 4000000 in
theorem xet_X19_puff (l : Launch) (a0 : Nat) (C : XH) (K : Int32 → XH → Prop) (hs : x_X19_puff a0 C K) : xMeti l yX19_puff (ws_ yX19_puff cX19_puff 1 (some .int)) 2 40 0 0 C [.ref a0] K := by
  intro D dT adK adV sz
  refine xEnter (own := RX19) (Qc := xQi D dT K) (by decide) rfl (by rfl) ?_
  intro p e s m args below meth c A ls X hnm hK hA hG hI hl
  have hx := X.1
  have hb := X.2.1
  have hts := X.2.2.2.2.1
  have hown := X.2.2.2.2.2.1
  have hl : lv_has ls 1 [(0, .ref a0)] := hl
  unfold x_X19_puff at hs
  refine lv_aload_n hx hb dX19_puff_0 rfl (lv_at hl 0 rfl) ?_
  obtain ⟨ch2, h2, gh2, hs⟩ := hs
  obtain ⟨fh2, h2⟩ := xcl_spec h2
  obtain ⟨ah2, gh2⟩ := x_aclH gh2
  refine x_goi hA hI (x_runSU (As := []) (rest := []) X hK hA hG hI h2 gh2 (xet_X17_puff l a0 _ _ hs) iX17_puff (by decide) q914 q2043 q738 q909 q121 ⟨(Nat.le_of_ble_eq_true rfl), (Nat.le_of_ble_eq_true rfl)⟩ rfl hl.1 rfl (Nat.le_of_ble_eq_true rfl) dX19_puff_1 ⟨(Nat.le_of_ble_eq_true rfl), (Nat.le_of_ble_eq_true rfl)⟩) (fun r2 C1 H locs hs9 hI => ?_)
  replace hs := hs9
  refine lv_iconst (v := 1) hx hb dX19_puff_4 (by decide) ?_
  refine lv_isub hx hb dX19_puff_5 ?_
  exact x_reti X hK hI hs (Nat.le_of_ble_eq_true rfl) (Nat.le_of_ble_eq_true rfl) dX19_puff_6
def x_X0_beyond (a0 : Nat) (C : XH) (K : Int32 → XH → Prop) : Prop := obd (xgr C (xis 0) a0 1) (fun ad1 => obd (xai C 0 ad1 5) (fun v2 => obd (xsi C ad1 5 (v2 + 1)) (fun C3 => K (-5) C3)))
theorem iX0_beyond : xInf yX0_beyond cX0_beyond 1 (some .int) 0 := ⟨q877, by decide +kernel⟩
set_option maxHeartbeats 4000000 in
theorem xet_X0_beyond (l : Launch) (a0 : Nat) (C : XH) (K : Int32 → XH → Prop) (hs : x_X0_beyond a0 C K) : xMeti l yX0_beyond (ws_ yX0_beyond cX0_beyond 1 (some .int)) 0 0 0 0 C [.ref a0] K := by
  intro D dT adK adV sz
  refine xEnter (own := RX0) (Qc := xQi D dT K) (by decide) rfl (by rfl) ?_
  intro p e s m args below meth c A ls X hnm hK hA hG hI hl
  have hx := X.1
  have hb := X.2.1
  have hts := X.2.2.2.2.1
  have hown := X.2.2.2.2.2.1
  have hl : lv_has ls 1 [(0, .ref a0)] := hl
  unfold x_X0_beyond at hs
  refine lv_aload_n hx hb dX0_beyond_0 rfl (lv_at hl 0 rfl) ?_
  obtain ⟨ad1, ead1, hs⟩ := hs
  refine x_get (v := .ref ad1) X hK hI 0 1 rfl in_X0 rfl q329 rfl (xgr_spec ead1) dX0_beyond_1 ?_
  refine lv_iconst (v := 5) hx hb dX0_beyond_4 (by decide) ?_
  refine lv_dup2_11 hx hb dX0_beyond_5 rfl rfl ?_
  obtain ⟨v2, ev2, hs⟩ := hs
  refine x_iald X hK hI ev2 dX0_beyond_6 ?_
  refine lv_iconst (v := 1) hx hb dX0_beyond_7 (by decide) ?_
  refine lv_iadd hx hb dX0_beyond_8 ?_
  obtain ⟨C3, eC3, hs⟩ := hs
  refine x_iast X hK hI eC3 dX0_beyond_9 (fun H locs hI => ?_)
  refine lv_bipush (v := (-5)) hx hb dX0_beyond_10 (by decide) ?_
  exact x_reti X hK hI hs (Nat.le_of_ble_eq_true rfl) (Nat.le_of_ble_eq_true rfl) dX0_beyond_12
