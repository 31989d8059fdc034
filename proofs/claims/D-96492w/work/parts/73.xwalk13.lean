set_option maxRecDepth 100000
def x_X0_startOf_l14 (K : Int32 → XH → Prop) (a0 : Nat) (a1 : Int32) (a2 : Int32) : Nat → Int32 → XH → Prop
  | 0, _, _ => False
  | n14_7 + 1, x6, C7 => (if 99 < x6 then K (-1) C7 else obd (xgr C7 (xis 0) a0 6) (fun ad9 => obd (xgr C7 (xis 4) ad9 9) (fun ad10 => obd (xsi C7 ad10 a1 x6) (fun C11 => obd (xgr C11 (xis 0) a0 3) (fun ad12 => obd (xgr C11 (xis 0) a0 6) (fun ad13 => (xcl C11 ad12 = some 2 ∧ x_X2_of ad12 ad13 a1 C11 (fun ad15 C14 => (xcl C14 ad15 = some 2 ∧ x_X2_comesIn ad15 C14 (fun r18 C17 => (if a2 < r18 then x_X0_startOf_l14 K a0 a1 a2 n14_7 (x6 + 1) C17 else K x6 C17)))))))))))
theorem x_X0_startOf_l14_s (K : Int32 → XH → Prop) (a0 : Nat) (a1 : Int32) (a2 : Int32) (n14_7 : Nat) (x6 : Int32) (C7 : XH) : x_X0_startOf_l14 K a0 a1 a2 (n14_7 + 1) x6 C7 = ((if 99 < x6 then K (-1) C7 else obd (xgr C7 (xis 0) a0 6) (fun ad9 => obd (xgr C7 (xis 4) ad9 9) (fun ad10 => obd (xsi C7 ad10 a1 x6) (fun C11 => obd (xgr C11 (xis 0) a0 3) (fun ad12 => obd (xgr C11 (xis 0) a0 6) (fun ad13 => (xcl C11 ad12 = some 2 ∧ x_X2_of ad12 ad13 a1 C11 (fun ad15 C14 => (xcl C14 ad15 = some 2 ∧ x_X2_comesIn ad15 C14 (fun r18 C17 => (if a2 < r18 then x_X0_startOf_l14 K a0 a1 a2 n14_7 (x6 + 1) C17 else K x6 C17)))))))))))) := rfl
def x_X0_startOf (a0 : Nat) (a1 : Int32) (a2 : Int32) (C : XH) (K : Int32 → XH → Prop) : Prop := obd (xgr C (xis 0) a0 6) (fun ad1 => obd (xgr C (xis 0) a0 7) (fun ad2 => (xcl C ad1 = some 4 ∧ x_X4_take ad1 ad2 C (fun ad4 C3 => x_X0_startOf_l14 K a0 a1 a2 NF 0 C3))))
theorem iX0_startOf : xInf yX0_startOf cX0_startOf 4 (some .int) 2 := ⟨q1292, by decide +kernel⟩
set_option maxHeartbeats 4000000 in
theorem xet_X0_startOf (l : Launch) (a0 : Nat) (a1 : Int32) (a2 : Int32) (C : XH) (K : Int32 → XH → Prop) (hs : x_X0_startOf a0 a1 a2 C K) : xMeti l yX0_startOf (ws_ yX0_startOf cX0_startOf 4 (some .int)) 8 221 0 0 C [.ref a0, .int a1, .int a2] K := by
  intro D dT adK adV sz
  refine xEnter (own := RX0) (Qc := xQi D dT K) (by decide) rfl (by rfl) ?_
  intro p e s m args below meth c A ls X hnm hK hA hG hI hl
  have hx := X.1
  have hb := X.2.1
  have hts := X.2.2.2.2.1
  have hown := X.2.2.2.2.2.1
  have hl : lv_has ls 4 [(0, .ref a0), (1, .int a1), (2, .int a2)] := hl
  unfold x_X0_startOf at hs
  refine lv_aload_n hx hb dX0_startOf_0 rfl (lv_at hl 0 rfl) ?_
  obtain ⟨ad1, ead1, hs⟩ := hs
  refine x_get (v := .ref ad1) X hK hI 0 6 rfl in_X0 rfl q334 rfl (xgr_spec ead1) dX0_startOf_1 ?_
  refine lv_aload_n hx hb dX0_startOf_4 rfl (lv_at hl 0 rfl) ?_
  obtain ⟨ad2, ead2, hs⟩ := hs
  refine x_get (v := .ref ad2) X hK hI 0 7 rfl in_X0 rfl q335 rfl (xgr_spec ead2) dX0_startOf_5 ?_
  obtain ⟨h4, hs⟩ := hs
  obtain ⟨fh4, h4⟩ := xcl_spec h4
  refine x_gor hA hI (x_runV (As := [.ref ad2]) (rest := []) X hK hA hG hI h4 (q := (RX4, TX4, 13)) rfl rfl (xet_X4_take l ad1 ad2 _ _ hs) iX4_take q949 q950 q951 q98 ⟨(Nat.le_of_ble_eq_true rfl), (Nat.le_of_ble_eq_true rfl)⟩ rfl hl.1 rfl (Nat.le_of_ble_eq_true rfl) dX0_startOf_8 ⟨(Nat.le_of_ble_eq_true rfl), (Nat.le_of_ble_eq_true rfl)⟩) (fun ad4 C3 H locs hs9 hI => ?_)
  replace hs := hs9
  refine lv_pop hx hb dX0_startOf_11 rfl ?_
  refine lv_iconst (v := 0) hx hb dX0_startOf_12 (by decide) ?_
  refine lv_istore_n (lv' := [(3, .int 0), (0, .ref a0), (1, .int a1), (2, .int a2)]) hx hb dX0_startOf_13 rfl hl (by decide) rfl (fun ls hl => ?_)
  have Lx_X0_startOf_l14 : ∀ (n14_7 : Nat) (x6 : Int32) (C7 : XH) (H : Heap) (locs : List Loc) (ls : Array Slot), x_X0_startOf_l14 K a0 a1 a2 n14_7 x6 C7 → xI D dT A s.heap C7 H locs → lv_has ls 4 [(0, .ref a0), (1, .int a1), (2, .int a2), (3, .int x6)] → W p l e (xRm 8 221 0 0) s m args below meth c H locs 0 0 (MQ below (xQi D dT K A) args s 0 0 A) (F0 m 14 ls []) := by
    intro n14_7
    induction n14_7 with
    | zero =>
      intro x6 C7 H locs ls hs
      exact False.elim hs
    | succ n14_7 ihx_X0_startOf_l14 =>
      intro x6 C7 H locs ls hs hI hl
      rw [x_X0_startOf_l14_s] at hs
      refine lv_iload_n hx hb dX0_startOf_14 rfl (lv_at hl 3 rfl) ?_
      refine lv_bipush (v := 99) hx hb dX0_startOf_15 (by decide) ?_
      refine lv_icmp_gt (tgt := 57) hx hb dX0_startOf_17 (by decide) (fun c20 => ?_) (fun c20 => ?_)
      · replace hs := ifp c20 hs
        refine lv_iconst (v := (-1)) hx hb dX0_startOf_57 (by decide) ?_
        exact x_reti X hK hI hs (Nat.le_of_ble_eq_true rfl) (Nat.le_of_ble_eq_true rfl) dX0_startOf_58
      · replace hs := ifn c20 hs
        refine lv_aload_n hx hb dX0_startOf_20 rfl (lv_at hl 0 rfl) ?_
        obtain ⟨ad9, ead9, hs⟩ := hs
        refine x_get (v := .ref ad9) X hK hI 0 6 rfl in_X0 rfl q334 rfl (xgr_spec ead9) dX0_startOf_21 ?_
        obtain ⟨ad10, ead10, hs⟩ := hs
        refine x_get (v := .ref ad10) X hK hI 4 9 rfl in_X4 rfl q284 rfl (xgr_spec ead10) dX0_startOf_24 ?_
        refine lv_iload_n hx hb dX0_startOf_27 rfl (lv_at hl 1 rfl) ?_
        refine lv_iload_n hx hb dX0_startOf_28 rfl (lv_at hl 3 rfl) ?_
        obtain ⟨C11, eC11, hs⟩ := hs
        refine x_iast X hK hI eC11 dX0_startOf_29 (fun H locs hI => ?_)
        refine lv_aload_n hx hb dX0_startOf_30 rfl (lv_at hl 0 rfl) ?_
        obtain ⟨ad12, ead12, hs⟩ := hs
        refine x_get (v := .ref ad12) X hK hI 0 3 rfl in_X0 rfl q331 rfl (xgr_spec ead12) dX0_startOf_31 ?_
        refine lv_aload_n hx hb dX0_startOf_34 rfl (lv_at hl 0 rfl) ?_
        obtain ⟨ad13, ead13, hs⟩ := hs
        refine x_get (v := .ref ad13) X hK hI 0 6 rfl in_X0 rfl q334 rfl (xgr_spec ead13) dX0_startOf_35 ?_
        refine lv_iload_n hx hb dX0_startOf_38 rfl (lv_at hl 1 rfl) ?_
        obtain ⟨h15, hs⟩ := hs
        obtain ⟨fh15, h15⟩ := xcl_spec h15
        refine x_gor hA hI (x_runV (As := [.ref ad13, .int a1]) (rest := []) X hK hA hG hI h15 (q := (RX2, TX2, 12)) rfl rfl (xet_X2_of l ad12 ad13 a1 _ _ hs) iX2_of q1136 q1137 q1138 q96 ⟨(Nat.le_of_ble_eq_true rfl), (Nat.le_of_ble_eq_true rfl)⟩ rfl hl.1 rfl (Nat.le_of_ble_eq_true rfl) dX0_startOf_39 ⟨(Nat.le_of_ble_eq_true rfl), (Nat.le_of_ble_eq_true rfl)⟩) (fun ad15 C14 H locs hs9 hI => ?_)
        replace hs := hs9
        obtain ⟨h18, hs⟩ := hs
        obtain ⟨fh18, h18⟩ := xcl_spec h18
        refine x_goi hA hI (x_runV (As := []) (rest := []) X hK hA hG hI h18 (q := (RX2, TX2, 12)) rfl rfl (xet_X2_comesIn l ad15 _ _ hs) iX2_comesIn q1197 q1198 q1199 q96 ⟨(Nat.le_of_ble_eq_true rfl), (Nat.le_of_ble_eq_true rfl)⟩ rfl hl.1 rfl (Nat.le_of_ble_eq_true rfl) dX0_startOf_42 ⟨(Nat.le_of_ble_eq_true rfl), (Nat.le_of_ble_eq_true rfl)⟩) (fun r18 C17 H locs hs9 hI => ?_)
        replace hs := hs9
        refine lv_iload_n hx hb dX0_startOf_45 rfl (lv_at hl 2 rfl) ?_
        refine lv_icmp_gt (tgt := 51) hx hb dX0_startOf_46 (by decide) (fun c19 => ?_) (fun c19 => ?_)
        · replace hs := ifp c19 hs
          refine lv_iinc (v := (x6 + 1)) (lv' := [(3, .int (x6 + 1)), (0, .ref a0), (1, .int a1), (2, .int a2)]) hx hb dX0_startOf_51 hl (k := 3) rfl (congrArg (fun z => x6 + z) (show Int32.ofInt (1) = 1 by decide)) (by decide) rfl (fun ls hl => ?_)
          refine lv_goto (tgt := 14) hx hb dX0_startOf_54 (by decide) ?_
          exact ihx_X0_startOf_l14 _ _ _ _ _ hs hI (lv_sub hl [1, 2, 3, 0] rfl)
        · replace hs := ifn c19 hs
          refine lv_iload_n hx hb dX0_startOf_49 rfl (lv_at hl 3 rfl) ?_
          exact x_reti X hK hI hs (Nat.le_of_ble_eq_true rfl) (Nat.le_of_ble_eq_true rfl) dX0_startOf_50
  exact Lx_X0_startOf_l14 NF _ _ _ _ _ hs hI (lv_sub hl [1, 2, 3, 0] rfl)
def x_X0_start (a0 : Nat) (a1 : Int32) (a2 : Int32) (C : XH) (K : Int32 → XH → Prop) : Prop := obd (xgr C (xis 0) a0 7) (fun ad1 => (xcl C ad1 = some 4 ∧ x_X4_isChild ad1 a1 C (fun r3 C2 => jn (fun (C5 : XH) => x_X0_need 0 (-1) C5 (fun C6 => (xcl C6 a0 = some 0 ∧ x_X0_timeOf a0 a2 C6 (fun r8 C7 => (xcl C7 a0 = some 0 ∧ x_X0_startOf a0 a1 r8 C7 (fun r11 C10 => K r11 C10))))) (fun ad13 C14 => (xcl C14 a0 = some 0 ∧ x_X0_refused a0 ad13 C14 (fun r16 C15 => K (r16 - 10) C15)))) (fun k26_5 => jn (fun (v18 : Int32) (C19 : XH) => x_X0_need v18 (-1) C19 (fun C20 => (xcl C20 a0 = some 0 ∧ x_X0_timeOf a0 a2 C20 (fun r22 C21 => (xcl C21 a0 = some 0 ∧ x_X0_startOf a0 a1 r22 C21 (fun r25 C24 => K r25 C24))))) (fun ad27 C28 => (xcl C28 a0 = some 0 ∧ x_X0_refused a0 ad27 C28 (fun r30 C29 => K (r30 - 10) C29)))) (fun k27_19 => (if r3 = 0 then k26_5 C2 else obd (xgr C2 (xis 0) a0 7) (fun ad32 => (xcl C2 ad32 = some 4 ∧ x_X4_isChild ad32 a2 C2 (fun r34 C33 => (if r34 = 0 then k26_5 C33 else k27_19 1 C33))))))))))
theorem iX0_start : xInfW yX0_start cX0_start 4 (some .int) [(0, 41, 42, 21)] 2 := ⟨q1288, by decide +kernel⟩
set_option maxHeartbeats 4000000 in
theorem xet_X0_start (l : Launch) (hl0 : l.stackTraces = false) (a0 : Nat) (a1 : Int32) (a2 : Int32) (C : XH) (K : Int32 → XH → Prop) (hs : x_X0_start a0 a1 a2 C K) : xMetX l yX0_start (wsW_ yX0_start cX0_start 4 (some .int) [(0, 41, 42, 21)]) 9 244 1 7 C [.ref a0, .int a1, .int a2] (fun D dT A => xQi D dT K A) xE0 := by
  intro D dT adK adV sz
  refine xEnterW (own := RX0) (Qc := xQi D dT K) (XC := xXC D dT xE0) (by decide) rfl (by rfl) ?_
  intro p e s m args below meth c A ls X hnm hK hA hG hT hI hl
  have hx := X.1
  have hb := X.2.1
  have hts := X.2.2.2.2.1
  have hown := X.2.2.2.2.2.1
  have hl : lv_has ls 4 [(0, .ref a0), (1, .int a1), (2, .int a2)] := hl
  unfold x_X0_start at hs
  refine lv_aload_n hx hb dX0_start_0 rfl (lv_at hl 0 rfl) ?_
  obtain ⟨ad1, ead1, hs⟩ := hs
  refine x_get (v := .ref ad1) X hK hI 0 7 rfl in_X0 rfl q335 rfl (xgr_spec ead1) dX0_start_1 ?_
  refine lv_iload_n hx hb dX0_start_4 rfl (lv_at hl 1 rfl) ?_
  obtain ⟨h3, hs⟩ := hs
  obtain ⟨fh3, h3⟩ := xcl_spec h3
  refine x_goz hA hI (x_runV (As := [.int a1]) (rest := []) X hK hA hG hI h3 (q := (RX4, TX4, 13)) rfl rfl (xet_X4_isChild l ad1 a1 _ _ hs) iX4_isChild q653 q654 q655 q98 ⟨(Nat.le_of_ble_eq_true rfl), (Nat.le_of_ble_eq_true rfl)⟩ rfl hl.1 rfl (Nat.le_of_ble_eq_true rfl) dX0_start_5 ⟨(Nat.le_of_ble_eq_true rfl), (Nat.le_of_ble_eq_true rfl)⟩) (fun r3 C2 H locs br3 hs9 hI => ?_)
  replace hs := hs9
  obtain ⟨k26_5, hk26_5, hs⟩ := jn_ex hs
  have Ek26_5 : ∀ (C5 : XH) (H : Heap) (locs : List Loc) (ls : Array Slot), k26_5 C5 → xI D dT A s.heap C5 H locs → lv_has ls 4 [(0, .ref a0), (1, .int a1), (2, .int a2)] → W p l e (xRm 9 244 1 7) s m args below meth c H locs 0 0 (vx_MQ below (xQi D dT K A) (xXC D dT xE0 A) args s 1 7 A) (F0 m 26 ls []) := by
    intro C5 H locs ls hs hI hl
    rw [hk26_5] at hs
    refine lv_iconst (v := 0) hx hb dX0_start_26 (by decide) ?_
    refine lv_iconst (v := (-1)) hx hb dX0_start_27 (by decide) ?_
    refine xT_gov hA hI (x_runST (As := [.int 0, .int (-1)]) (rest := []) X hK hA hG hI (xet_X0_need l hl0 0 (-1) _ _ _ hs) iX0_need q469 q470 q94 ⟨(Nat.le_of_ble_eq_true rfl), (Nat.le_of_ble_eq_true rfl)⟩ rfl hl.1 rfl (Nat.le_of_ble_eq_true rfl) dX0_start_28 ⟨(Nat.le_of_ble_eq_true rfl), (Nat.le_of_ble_eq_true rfl)⟩) (fun En ce ad13 C14 H locs hs9 hI hce hvm hcl => ?_) (fun C6 H locs hs9 hI => ?_)
    · obtain ⟨rfl, hs0⟩ := hs9
      replace hs := hs0
      refine x_catch (k := 0) (a1 := 0) (a2 := 41) (a3 := 42) (a4 := 21) X hG hT rfl (x_cov rfl) rfl (by decide) q363 (by decide) hce hvm hcl ?_
      refine lv_astore_n (lv' := [(3, .ref ad13), (0, .ref a0), (1, .int a1), (2, .int a2)]) hx hb dX0_start_42 rfl hl (by decide) rfl (fun ls hl => ?_)
      refine lv_aload_n hx hb dX0_start_43 rfl (lv_at hl 1 rfl) ?_
      refine lv_aload_n hx hb dX0_start_44 rfl (lv_at hl 0 rfl) ?_
      obtain ⟨h16, hs⟩ := hs
      obtain ⟨fh16, h16⟩ := xcl_spec h16
      refine x_goi hA hI (x_runV (As := [.ref ad13]) (rest := []) X hK hA hG hI h16 (q := (RX0, TX0, 10)) rfl rfl (xet_X0_refused l a0 ad13 _ _ hs) iX0_refused q538 q540 qs2 q94 ⟨(Nat.le_of_ble_eq_true rfl), (Nat.le_of_ble_eq_true rfl)⟩ rfl hl.1 rfl (Nat.le_of_ble_eq_true rfl) dX0_start_45 ⟨(Nat.le_of_ble_eq_true rfl), (Nat.le_of_ble_eq_true rfl)⟩) (fun r16 C15 H locs hs9 hI => ?_)
      replace hs := hs9
      refine lv_bipush (v := 10) hx hb dX0_start_48 (by decide) ?_
      refine lv_isub hx hb dX0_start_50 ?_
      exact vx_ret (x_reti X hK hI hs (Nat.le_of_ble_eq_true rfl) (Nat.le_of_ble_eq_true rfl) dX0_start_51)
    · replace hs := hs9
      refine lv_aload_n hx hb dX0_start_31 rfl (lv_at hl 0 rfl) ?_
      refine lv_iload_n hx hb dX0_start_32 rfl (lv_at hl 1 rfl) ?_
      refine lv_aload_n hx hb dX0_start_33 rfl (lv_at hl 0 rfl) ?_
      refine lv_iload_n hx hb dX0_start_34 rfl (lv_at hl 2 rfl) ?_
      obtain ⟨h8, hs⟩ := hs
      obtain ⟨fh8, h8⟩ := xcl_spec h8
      refine x_goi hA hI (x_runV (As := [.int a2]) (rest := [.int a1, .ref a0]) X hK hA hG hI h8 (q := (RX0, TX0, 10)) rfl rfl (xet_X0_timeOf l a0 a2 _ _ hs) iX0_timeOf q1193 q1195 qs23 q94 ⟨(Nat.le_of_ble_eq_true rfl), (Nat.le_of_ble_eq_true rfl)⟩ rfl hl.1 rfl (Nat.le_of_ble_eq_true rfl) dX0_start_35 ⟨(Nat.le_of_ble_eq_true rfl), (Nat.le_of_ble_eq_true rfl)⟩) (fun r8 C7 H locs hs9 hI => ?_)
      replace hs := hs9
      obtain ⟨h11, hs⟩ := hs
      obtain ⟨fh11, h11⟩ := xcl_spec h11
      refine x_goi hA hI (x_runV (As := [.int a1, .int r8]) (rest := []) X hK hA hG hI h11 (q := (RX0, TX0, 10)) rfl rfl (xet_X0_startOf l a0 a1 r8 _ _ hs) iX0_startOf q1289 q1291 qs34 q94 ⟨(Nat.le_of_ble_eq_true rfl), (Nat.le_of_ble_eq_true rfl)⟩ rfl hl.1 rfl (Nat.le_of_ble_eq_true rfl) dX0_start_38 ⟨(Nat.le_of_ble_eq_true rfl), (Nat.le_of_ble_eq_true rfl)⟩) (fun r11 C10 H locs hs9 hI => ?_)
      replace hs := hs9
      exact vx_ret (x_reti X hK hI hs (Nat.le_of_ble_eq_true rfl) (Nat.le_of_ble_eq_true rfl) dX0_start_41)
  obtain ⟨k27_19, hk27_19, hs⟩ := jn_ex hs
  have Ek27_19 : ∀ (v18 : Int32) (C19 : XH) (H : Heap) (locs : List Loc) (ls : Array Slot), k27_19 v18 C19 → xI D dT A s.heap C19 H locs → lv_has ls 4 [(0, .ref a0), (1, .int a1), (2, .int a2)] → W p l e (xRm 9 244 1 7) s m args below meth c H locs 0 0 (vx_MQ below (xQi D dT K A) (xXC D dT xE0 A) args s 1 7 A) (F0 m 27 ls [.int v18]) := by
    intro v18 C19 H locs ls hs hI hl
    rw [hk27_19] at hs
    refine lv_iconst (v := (-1)) hx hb dX0_start_27 (by decide) ?_
    refine xT_gov hA hI (x_runST (As := [.int v18, .int (-1)]) (rest := []) X hK hA hG hI (xet_X0_need l hl0 v18 (-1) _ _ _ hs) iX0_need q469 q470 q94 ⟨(Nat.le_of_ble_eq_true rfl), (Nat.le_of_ble_eq_true rfl)⟩ rfl hl.1 rfl (Nat.le_of_ble_eq_true rfl) dX0_start_28 ⟨(Nat.le_of_ble_eq_true rfl), (Nat.le_of_ble_eq_true rfl)⟩) (fun En ce ad27 C28 H locs hs9 hI hce hvm hcl => ?_) (fun C20 H locs hs9 hI => ?_)
    · obtain ⟨rfl, hs0⟩ := hs9
      replace hs := hs0
      refine x_catch (k := 0) (a1 := 0) (a2 := 41) (a3 := 42) (a4 := 21) X hG hT rfl (x_cov rfl) rfl (by decide) q363 (by decide) hce hvm hcl ?_
      refine lv_astore_n (lv' := [(3, .ref ad27), (0, .ref a0), (1, .int a1), (2, .int a2)]) hx hb dX0_start_42 rfl hl (by decide) rfl (fun ls hl => ?_)
      refine lv_aload_n hx hb dX0_start_43 rfl (lv_at hl 1 rfl) ?_
      refine lv_aload_n hx hb dX0_start_44 rfl (lv_at hl 0 rfl) ?_
      obtain ⟨h30, hs⟩ := hs
      obtain ⟨fh30, h30⟩ := xcl_spec h30
      refine x_goi hA hI (x_runV (As := [.ref ad27]) (rest := []) X hK hA hG hI h30 (q := (RX0, TX0, 10)) rfl rfl (xet_X0_refused l a0 ad27 _ _ hs) iX0_refused q538 q540 qs2 q94 ⟨(Nat.le_of_ble_eq_true rfl), (Nat.le_of_ble_eq_true rfl)⟩ rfl hl.1 rfl (Nat.le_of_ble_eq_true rfl) dX0_start_45 ⟨(Nat.le_of_ble_eq_true rfl), (Nat.le_of_ble_eq_true rfl)⟩) (fun r30 C29 H locs hs9 hI => ?_)
      replace hs := hs9
      refine lv_bipush (v := 10) hx hb dX0_start_48 (by decide) ?_
      refine lv_isub hx hb dX0_start_50 ?_
      exact vx_ret (x_reti X hK hI hs (Nat.le_of_ble_eq_true rfl) (Nat.le_of_ble_eq_true rfl) dX0_start_51)
    · replace hs := hs9
      refine lv_aload_n hx hb dX0_start_31 rfl (lv_at hl 0 rfl) ?_
      refine lv_iload_n hx hb dX0_start_32 rfl (lv_at hl 1 rfl) ?_
      refine lv_aload_n hx hb dX0_start_33 rfl (lv_at hl 0 rfl) ?_
      refine lv_iload_n hx hb dX0_start_34 rfl (lv_at hl 2 rfl) ?_
      obtain ⟨h22, hs⟩ := hs
      obtain ⟨fh22, h22⟩ := xcl_spec h22
      refine x_goi hA hI (x_runV (As := [.int a2]) (rest := [.int a1, .ref a0]) X hK hA hG hI h22 (q := (RX0, TX0, 10)) rfl rfl (xet_X0_timeOf l a0 a2 _ _ hs) iX0_timeOf q1193 q1195 qs23 q94 ⟨(Nat.le_of_ble_eq_true rfl), (Nat.le_of_ble_eq_true rfl)⟩ rfl hl.1 rfl (Nat.le_of_ble_eq_true rfl) dX0_start_35 ⟨(Nat.le_of_ble_eq_true rfl), (Nat.le_of_ble_eq_true rfl)⟩) (fun r22 C21 H locs hs9 hI => ?_)
      replace hs := hs9
      obtain ⟨h25, hs⟩ := hs
      obtain ⟨fh25, h25⟩ := xcl_spec h25
      refine x_goi hA hI (x_runV (As := [.int a1, .int r22]) (rest := []) X hK hA hG hI h25 (q := (RX0, TX0, 10)) rfl rfl (xet_X0_startOf l a0 a1 r22 _ _ hs) iX0_startOf q1289 q1291 qs34 q94 ⟨(Nat.le_of_ble_eq_true rfl), (Nat.le_of_ble_eq_true rfl)⟩ rfl hl.1 rfl (Nat.le_of_ble_eq_true rfl) dX0_start_38 ⟨(Nat.le_of_ble_eq_true rfl), (Nat.le_of_ble_eq_true rfl)⟩) (fun r25 C24 H locs hs9 hI => ?_)
      replace hs := hs9
      exact vx_ret (x_reti X hK hI hs (Nat.le_of_ble_eq_true rfl) (Nat.le_of_ble_eq_true rfl) dX0_start_41)
  refine lv_if_eq (tgt := 26) hx hb dX0_start_8 (by decide) (fun c36 => ?_) (fun c36 => ?_)
  · replace hs := ifp c36 hs
    exact Ek26_5 _ _ _ _ hs hI hl
  · replace hs := ifn c36 hs
    refine lv_aload_n hx hb dX0_start_11 rfl (lv_at hl 0 rfl) ?_
    obtain ⟨ad32, ead32, hs⟩ := hs
    refine x_get (v := .ref ad32) X hK hI 0 7 rfl in_X0 rfl q335 rfl (xgr_spec ead32) dX0_start_12 ?_
    refine lv_iload_n hx hb dX0_start_15 rfl (lv_at hl 2 rfl) ?_
    obtain ⟨h34, hs⟩ := hs
    obtain ⟨fh34, h34⟩ := xcl_spec h34
    refine x_goz hA hI (x_runV (As := [.int a2]) (rest := []) X hK hA hG hI h34 (q := (RX4, TX4, 13)) rfl rfl (xet_X4_isChild l ad32 a2 _ _ hs) iX4_isChild q653 q654 q655 q98 ⟨(Nat.le_of_ble_eq_true rfl), (Nat.le_of_ble_eq_true rfl)⟩ rfl hl.1 rfl (Nat.le_of_ble_eq_true rfl) dX0_start_16 ⟨(Nat.le_of_ble_eq_true rfl), (Nat.le_of_ble_eq_true rfl)⟩) (fun r34 C33 H locs br34 hs9 hI => ?_)
    replace hs := hs9
    refine lv_if_eq (tgt := 26) hx hb dX0_start_19 (by decide) (fun c35 => ?_) (fun c35 => ?_)
    · replace hs := ifp c35 hs
      exact Ek26_5 _ _ _ _ hs hI hl
    · replace hs := ifn c35 hs
      refine lv_iconst (v := 1) hx hb dX0_start_22 (by decide) ?_
      refine lv_goto (tgt := 27) hx hb dX0_start_23 (by decide) ?_
      exact Ek27_19 _ _ _ _ _ hs hI hl
def x_X0_atOnce_l29 (K : Int32 → XH → Prop) (a0 : Nat) (r10 : Int32) : Nat → Int32 → Int32 → XH → Prop
  | 0, _, _, _ => False
  | n29_14 + 1, x12, x13, C14 => obd (xgr C14 (xis 0) a0 7) (fun ad16 => obd (xgi C14 (xis 4) ad16 0) (fun v17 => (if v17 ≤ x13 then K x12 C14 else (xcl C14 a0 = some 0 ∧ x_X0_startOf a0 x13 r10 C14 (fun r19 C18 => (if r19 = (-1) then K (-1) C18 else x_X0_atOnce_l29 K a0 r10 n29_14 (x12 + r19) (x13 + 1) C18))))))
theorem x_X0_atOnce_l29_s (K : Int32 → XH → Prop) (a0 : Nat) (r10 : Int32) (n29_14 : Nat) (x12 : Int32) (x13 : Int32) (C14 : XH) : x_X0_atOnce_l29 K a0 r10 (n29_14 + 1) x12 x13 C14 = (obd (xgr C14 (xis 0) a0 7) (fun ad16 => obd (xgi C14 (xis 4) ad16 0) (fun v17 => (if v17 ≤ x13 then K x12 C14 else (xcl C14 a0 = some 0 ∧ x_X0_startOf a0 x13 r10 C14 (fun r19 C18 => (if r19 = (-1) then K (-1) C18 else x_X0_atOnce_l29 K a0 r10 n29_14 (x12 + r19) (x13 + 1) C18))))))) := rfl
def x_X0_atOnce (a0 : Nat) (C : XH) (K : Int32 → XH → Prop) : Prop := obd (xgr C (xis 0) a0 7) (fun ad1 => obd (xgi C (xis 4) ad1 0) (fun v2 => (if v2 = 0 then K 0 C else (xcl C a0 = some 0 ∧ x_X0_all a0 C (fun r4 C3 => (xcl C3 a0 = some 0 ∧ x_X0_winnerOf a0 r4 C3 (fun r7 C6 => (xcl C6 a0 = some 0 ∧ x_X0_timeOf a0 r7 C6 (fun r10 C9 => x_X0_atOnce_l29 K a0 r10 NF 0 0 C9)))))))))
theorem iX0_atOnce : xInf yX0_atOnce cX0_atOnce 5 (some .int) 0 := ⟨q1296, by decide +kernel⟩
set_option maxHeartbeats 4000000 in
theorem xet_X0_atOnce (l : Launch) (a0 : Nat) (C : XH) (K : Int32 → XH → Prop) (hs : x_X0_atOnce a0 C K) : xMeti l yX0_atOnce (ws_ yX0_atOnce cX0_atOnce 5 (some .int)) 10 244 0 0 C [.ref a0] K := by
  intro D dT adK adV sz
  refine xEnter (own := RX0) (Qc := xQi D dT K) (by decide) rfl (by rfl) ?_
  intro p e s m args below meth c A ls X hnm hK hA hG hI hl
  have hx := X.1
  have hb := X.2.1
  have hts := X.2.2.2.2.1
  have hown := X.2.2.2.2.2.1
  have hl : lv_has ls 5 [(0, .ref a0)] := hl
  unfold x_X0_atOnce at hs
  refine lv_iconst (v := 0) hx hb dX0_atOnce_0 (by decide) ?_
  refine lv_istore_n (lv' := [(1, .int 0), (0, .ref a0)]) hx hb dX0_atOnce_1 rfl hl (by decide) rfl (fun ls hl => ?_)
  refine lv_aload_n hx hb dX0_atOnce_2 rfl (lv_at hl 1 rfl) ?_
  obtain ⟨ad1, ead1, hs⟩ := hs
  refine x_get (v := .ref ad1) X hK hI 0 7 rfl in_X0 rfl q335 rfl (xgr_spec ead1) dX0_atOnce_3 ?_
  obtain ⟨v2, ev2, hs⟩ := hs
  refine x_get (v := .int v2) X hK hI 4 0 rfl in_X4 rfl q252 rfl (xgi_spec ev2) dX0_atOnce_6 ?_
  refine lv_if_ne (tgt := 14) hx hb dX0_atOnce_9 (by decide) (fun c22 => ?_) (fun c22 => ?_)
  · replace hs := ifn c22 hs
    refine lv_aload_n hx hb dX0_atOnce_14 rfl (lv_at hl 1 rfl) ?_
    refine lv_aload_n hx hb dX0_atOnce_15 rfl (lv_at hl 1 rfl) ?_
    refine lv_aload_n hx hb dX0_atOnce_16 rfl (lv_at hl 1 rfl) ?_
    obtain ⟨h4, hs⟩ := hs
    obtain ⟨fh4, h4⟩ := xcl_spec h4
    refine x_goi hA hI (x_runV (As := []) (rest := [.ref a0, .ref a0]) X hK hA hG hI h4 (q := (RX0, TX0, 10)) rfl rfl (xet_X0_all l a0 _ _ hs) iX0_all q1214 q1216 qs25 q94 ⟨(Nat.le_of_ble_eq_true rfl), (Nat.le_of_ble_eq_true rfl)⟩ rfl hl.1 rfl (Nat.le_of_ble_eq_true rfl) dX0_atOnce_17 ⟨(Nat.le_of_ble_eq_true rfl), (Nat.le_of_ble_eq_true rfl)⟩) (fun r4 C3 H locs hs9 hI => ?_)
    replace hs := hs9
    obtain ⟨h7, hs⟩ := hs
    obtain ⟨fh7, h7⟩ := xcl_spec h7
    refine x_goi hA hI (x_runV (As := [.int r4]) (rest := [.ref a0]) X hK hA hG hI h7 (q := (RX0, TX0, 10)) rfl rfl (xet_X0_winnerOf l a0 r4 _ _ hs) iX0_winnerOf q1218 q1220 qs26 q94 ⟨(Nat.le_of_ble_eq_true rfl), (Nat.le_of_ble_eq_true rfl)⟩ rfl hl.1 rfl (Nat.le_of_ble_eq_true rfl) dX0_atOnce_20 ⟨(Nat.le_of_ble_eq_true rfl), (Nat.le_of_ble_eq_true rfl)⟩) (fun r7 C6 H locs hs9 hI => ?_)
    replace hs := hs9
    obtain ⟨h10, hs⟩ := hs
    obtain ⟨fh10, h10⟩ := xcl_spec h10
    refine x_goi hA hI (x_runV (As := [.int r7]) (rest := []) X hK hA hG hI h10 (q := (RX0, TX0, 10)) rfl rfl (xet_X0_timeOf l a0 r7 _ _ hs) iX0_timeOf q1193 q1195 qs23 q94 ⟨(Nat.le_of_ble_eq_true rfl), (Nat.le_of_ble_eq_true rfl)⟩ rfl hl.1 rfl (Nat.le_of_ble_eq_true rfl) dX0_atOnce_23 ⟨(Nat.le_of_ble_eq_true rfl), (Nat.le_of_ble_eq_true rfl)⟩) (fun r10 C9 H locs hs9 hI => ?_)
    replace hs := hs9
    refine lv_istore_n (lv' := [(2, .int r10), (1, .int 0), (0, .ref a0)]) hx hb dX0_atOnce_26 rfl hl (by decide) rfl (fun ls hl => ?_)
    refine lv_iconst (v := 0) hx hb dX0_atOnce_27 (by decide) ?_
    refine lv_istore_n (lv' := [(3, .int 0), (2, .int r10), (1, .int 0), (0, .ref a0)]) hx hb dX0_atOnce_28 rfl hl (by decide) rfl (fun ls hl => ?_)
    have Lx_X0_atOnce_l29 : ∀ (n29_14 : Nat) (x12 : Int32) (x13 : Int32) (C14 : XH) (H : Heap) (locs : List Loc) (ls : Array Slot), x_X0_atOnce_l29 K a0 r10 n29_14 x12 x13 C14 → xI D dT A s.heap C14 H locs → lv_has ls 5 [(0, .ref a0), (1, .int x12), (2, .int r10), (3, .int x13)] → W p l e (xRm 10 244 0 0) s m args below meth c H locs 0 0 (MQ below (xQi D dT K A) args s 0 0 A) (F0 m 29 ls []) := by
      intro n29_14
      induction n29_14 with
      | zero =>
        intro x12 x13 C14 H locs ls hs
        exact False.elim hs
      | succ n29_14 ihx_X0_atOnce_l29 =>
        intro x12 x13 C14 H locs ls hs hI hl
        rw [x_X0_atOnce_l29_s] at hs
        refine lv_iload_n hx hb dX0_atOnce_29 rfl (lv_at hl 3 rfl) ?_
        refine lv_aload_n hx hb dX0_atOnce_30 rfl (lv_at hl 0 rfl) ?_
        obtain ⟨ad16, ead16, hs⟩ := hs
        refine x_get (v := .ref ad16) X hK hI 0 7 rfl in_X0 rfl q335 rfl (xgr_spec ead16) dX0_atOnce_31 ?_
        obtain ⟨v17, ev17, hs⟩ := hs
        refine x_get (v := .int v17) X hK hI 4 0 rfl in_X4 rfl q252 rfl (xgi_spec ev17) dX0_atOnce_34 ?_
        refine lv_icmp_ge (tgt := 67) hx hb dX0_atOnce_37 (by decide) (fun c21 => ?_) (fun c21 => ?_)
        · replace hs := ifp c21 hs
          refine lv_iload_n hx hb dX0_atOnce_67 rfl (lv_at hl 1 rfl) ?_
          exact x_reti X hK hI hs (Nat.le_of_ble_eq_true rfl) (Nat.le_of_ble_eq_true rfl) dX0_atOnce_68
        · replace hs := ifn c21 hs
          refine lv_aload_n hx hb dX0_atOnce_40 rfl (lv_at hl 0 rfl) ?_
          refine lv_iload_n hx hb dX0_atOnce_41 rfl (lv_at hl 3 rfl) ?_
          refine lv_iload_n hx hb dX0_atOnce_42 rfl (lv_at hl 2 rfl) ?_
          obtain ⟨h19, hs⟩ := hs
          obtain ⟨fh19, h19⟩ := xcl_spec h19
          refine x_goi hA hI (x_runV (As := [.int x13, .int r10]) (rest := []) X hK hA hG hI h19 (q := (RX0, TX0, 10)) rfl rfl (xet_X0_startOf l a0 x13 r10 _ _ hs) iX0_startOf q1289 q1291 qs34 q94 ⟨(Nat.le_of_ble_eq_true rfl), (Nat.le_of_ble_eq_true rfl)⟩ rfl hl.1 rfl (Nat.le_of_ble_eq_true rfl) dX0_atOnce_43 ⟨(Nat.le_of_ble_eq_true rfl), (Nat.le_of_ble_eq_true rfl)⟩) (fun r19 C18 H locs hs9 hI => ?_)
          replace hs := hs9
          refine lv_istore (lv' := [(4, .int r19), (0, .ref a0), (1, .int x12), (2, .int r10), (3, .int x13)]) hx hb dX0_atOnce_46 hl (by decide) rfl (fun ls hl => ?_)
          refine lv_iload hx hb dX0_atOnce_48 (lv_at hl 0 rfl) ?_
          refine lv_iconst (v := (-1)) hx hb dX0_atOnce_50 (by decide) ?_
          refine lv_icmp_ne (tgt := 56) hx hb dX0_atOnce_51 (by decide) (fun c20 => ?_) (fun c20 => ?_)
          · replace hs := ifn c20 hs
            refine lv_iload_n hx hb dX0_atOnce_56 rfl (lv_at hl 2 rfl) ?_
            refine lv_iload hx hb dX0_atOnce_57 (lv_at hl 0 rfl) ?_
            refine lv_iadd hx hb dX0_atOnce_59 ?_
            refine lv_istore_n (lv' := [(1, .int (x12 + r19)), (4, .int r19), (0, .ref a0), (2, .int r10), (3, .int x13)]) hx hb dX0_atOnce_60 rfl hl (by decide) rfl (fun ls hl => ?_)
            refine lv_iinc (v := (x13 + 1)) (lv' := [(3, .int (x13 + 1)), (1, .int (x12 + r19)), (4, .int r19), (0, .ref a0), (2, .int r10)]) hx hb dX0_atOnce_61 hl (k := 4) rfl (congrArg (fun z => x13 + z) (show Int32.ofInt (1) = 1 by decide)) (by decide) rfl (fun ls hl => ?_)
            refine lv_goto (tgt := 29) hx hb dX0_atOnce_64 (by decide) ?_
            exact ihx_X0_atOnce_l29 _ _ _ _ _ _ hs hI (lv_sub hl [3, 1, 4, 0] rfl)
          · replace hs := ifp c20 hs
            refine lv_iconst (v := (-1)) hx hb dX0_atOnce_54 (by decide) ?_
            exact x_reti X hK hI hs (Nat.le_of_ble_eq_true rfl) (Nat.le_of_ble_eq_true rfl) dX0_atOnce_55
    exact Lx_X0_atOnce_l29 NF _ _ _ _ _ _ hs hI (lv_sub hl [3, 2, 1, 0] rfl)
  · replace hs := ifp c22 hs
    refine lv_iload_n hx hb dX0_atOnce_12 rfl (lv_at hl 0 rfl) ?_
    exact x_reti X hK hI hs (Nat.le_of_ble_eq_true rfl) (Nat.le_of_ble_eq_true rfl) dX0_atOnce_13
def x_X0_heatsOf_l12 (K : Int32 → XH → Prop) (a0 : Nat) (a1 : Int32) (a2 : Int32) (a3 : Nat) : Nat → Int32 → Int32 → Int32 → Int32 → XH → Prop
  | 0, _, _, _, _, _ => False
  | n12_5 + 1, x1, x2, x3, x4, C5 => obd (xgr C5 (xis 0) a0 7) (fun ad7 => obd (xgi C5 (xis 4) ad7 0) (fun v8 => (if v8 ≤ x4 then K x1 C5 else jn (fun (x9 : Int32) (x10 : Int32) => jn ((xcl C5 a0 = some 0 ∧ x_X0_winnerOf a0 x9 C5 (fun r12 C11 => obd (xai C11 0 a3 0) (fun v14 => obd (xsi C11 a3 0 (v14 + 1)) (fun C15 => x_X0_heatsOf_l12 K a0 a1 a2 a3 n12_5 (x1 ||| (1 <<< (r12 &&& 31))) 0 0 (x4 + 1) C15))))) (fun k65_10 => jn (fun (x16 : Int32) (x17 : Int32) (x18 : Int32) (C19 : XH) => x_X0_heatsOf_l12 K a0 a1 a2 a3 n12_5 x16 x17 x18 (x4 + 1) C19) (fun k91_19 => (if x10 = a2 then k65_10 else (if x9 = 0 then k91_19 x1 x9 x10 C5 else (if (a1 >>> ((x4 + 1) &&& 31)) = 0 then k65_10 else k91_19 x1 x9 x10 C5)))))) (fun k45_10 => (if ((a1 >>> (x4 &&& 31)) &&& 1) = 0 then k45_10 x2 x3 else k45_10 (x2 ||| (1 <<< (x4 &&& 31))) (x3 + 1))))))
theorem x_X0_heatsOf_l12_s (K : Int32 → XH → Prop) (a0 : Nat) (a1 : Int32) (a2 : Int32) (a3 : Nat) (n12_5 : Nat) (x1 : Int32) (x2 : Int32) (x3 : Int32) (x4 : Int32) (C5 : XH) : x_X0_heatsOf_l12 K a0 a1 a2 a3 (n12_5 + 1) x1 x2 x3 x4 C5 = (obd (xgr C5 (xis 0) a0 7) (fun ad7 => obd (xgi C5 (xis 4) ad7 0) (fun v8 => (if v8 ≤ x4 then K x1 C5 else jn (fun (x9 : Int32) (x10 : Int32) => jn ((xcl C5 a0 = some 0 ∧ x_X0_winnerOf a0 x9 C5 (fun r12 C11 => obd (xai C11 0 a3 0) (fun v14 => obd (xsi C11 a3 0 (v14 + 1)) (fun C15 => x_X0_heatsOf_l12 K a0 a1 a2 a3 n12_5 (x1 ||| (1 <<< (r12 &&& 31))) 0 0 (x4 + 1) C15))))) (fun k65_10 => jn (fun (x16 : Int32) (x17 : Int32) (x18 : Int32) (C19 : XH) => x_X0_heatsOf_l12 K a0 a1 a2 a3 n12_5 x16 x17 x18 (x4 + 1) C19) (fun k91_19 => (if x10 = a2 then k65_10 else (if x9 = 0 then k91_19 x1 x9 x10 C5 else (if (a1 >>> ((x4 + 1) &&& 31)) = 0 then k65_10 else k91_19 x1 x9 x10 C5)))))) (fun k45_10 => (if ((a1 >>> (x4 &&& 31)) &&& 1) = 0 then k45_10 x2 x3 else k45_10 (x2 ||| (1 <<< (x4 &&& 31))) (x3 + 1))))))) := rfl
def x_X0_heatsOf (a0 : Nat) (a1 : Int32) (a2 : Int32) (a3 : Nat) (C : XH) (K : Int32 → XH → Prop) : Prop := x_X0_heatsOf_l12 K a0 a1 a2 a3 NF 0 0 0 0 C
theorem iX0_heatsOf : xInf yX0_heatsOf cX0_heatsOf 8 (some .int) 3 := ⟨q1310, by decide +kernel⟩
set_option maxHeartbeats 4000000 in
theorem xet_X0_heatsOf (l : Launch) (a0 : Nat) (a1 : Int32) (a2 : Int32) (a3 : Nat) (C : XH) (K : Int32 → XH → Prop) (hs : x_X0_heatsOf a0 a1 a2 a3 C K) : xMeti l yX0_heatsOf (ws_ yX0_heatsOf cX0_heatsOf 8 (some .int)) 10 228 0 0 C [.ref a0, .int a1, .int a2, .ref a3] K := by
  intro D dT adK adV sz
  refine xEnter (own := RX0) (Qc := xQi D dT K) (by decide) rfl (by rfl) ?_
  intro p e s m args below meth c A ls X hnm hK hA hG hI hl
  have hx := X.1
  have hb := X.2.1
  have hts := X.2.2.2.2.1
  have hown := X.2.2.2.2.2.1
  have hl : lv_has ls 8 [(0, .ref a0), (1, .int a1), (2, .int a2), (3, .ref a3)] := hl
  unfold x_X0_heatsOf at hs
  refine lv_iconst (v := 0) hx hb dX0_heatsOf_0 (by decide) ?_
  refine lv_istore (lv' := [(4, .int 0), (0, .ref a0), (1, .int a1), (2, .int a2), (3, .ref a3)]) hx hb dX0_heatsOf_1 hl (by decide) rfl (fun ls hl => ?_)
  refine lv_iconst (v := 0) hx hb dX0_heatsOf_3 (by decide) ?_
  refine lv_istore (lv' := [(5, .int 0), (4, .int 0), (0, .ref a0), (1, .int a1), (2, .int a2), (3, .ref a3)]) hx hb dX0_heatsOf_4 hl (by decide) rfl (fun ls hl => ?_)
  refine lv_iconst (v := 0) hx hb dX0_heatsOf_6 (by decide) ?_
  refine lv_istore (lv' := [(6, .int 0), (5, .int 0), (4, .int 0), (0, .ref a0), (1, .int a1), (2, .int a2), (3, .ref a3)]) hx hb dX0_heatsOf_7 hl (by decide) rfl (fun ls hl => ?_)
  refine lv_iconst (v := 0) hx hb dX0_heatsOf_9 (by decide) ?_
  refine lv_istore (lv' := [(7, .int 0), (6, .int 0), (5, .int 0), (4, .int 0), (0, .ref a0), (1, .int a1), (2, .int a2), (3, .ref a3)]) hx hb dX0_heatsOf_10 hl (by decide) rfl (fun ls hl => ?_)
  have Lx_X0_heatsOf_l12 : ∀ (n12_5 : Nat) (x1 : Int32) (x2 : Int32) (x3 : Int32) (x4 : Int32) (C5 : XH) (H : Heap) (locs : List Loc) (ls : Array Slot), x_X0_heatsOf_l12 K a0 a1 a2 a3 n12_5 x1 x2 x3 x4 C5 → xI D dT A s.heap C5 H locs → lv_has ls 8 [(0, .ref a0), (1, .int a1), (2, .int a2), (3, .ref a3), (4, .int x1), (5, .int x2), (6, .int x3), (7, .int x4)] → W p l e (xRm 10 228 0 0) s m args below meth c H locs 0 0 (MQ below (xQi D dT K A) args s 0 0 A) (F0 m 12 ls []) := by
    intro n12_5
    induction n12_5 with
    | zero =>
      intro x1 x2 x3 x4 C5 H locs ls hs
      exact False.elim hs
    | succ n12_5 ihx_X0_heatsOf_l12 =>
      intro x1 x2 x3 x4 C5 H locs ls hs hI hl
      rw [x_X0_heatsOf_l12_s] at hs
      refine lv_iload hx hb dX0_heatsOf_12 (lv_at hl 7 rfl) ?_
      refine lv_aload_n hx hb dX0_heatsOf_14 rfl (lv_at hl 0 rfl) ?_
      obtain ⟨ad7, ead7, hs⟩ := hs
      refine x_get (v := .ref ad7) X hK hI 0 7 rfl in_X0 rfl q335 rfl (xgr_spec ead7) dX0_heatsOf_15 ?_
      obtain ⟨v8, ev8, hs⟩ := hs
      refine x_get (v := .int v8) X hK hI 4 0 rfl in_X4 rfl q252 rfl (xgi_spec ev8) dX0_heatsOf_18 ?_
      refine lv_icmp_ge (tgt := 97) hx hb dX0_heatsOf_21 (by decide) (fun c23 => ?_) (fun c23 => ?_)
      · replace hs := ifp c23 hs
        refine lv_iload hx hb dX0_heatsOf_97 (lv_at hl 4 rfl) ?_
        exact x_reti X hK hI hs (Nat.le_of_ble_eq_true rfl) (Nat.le_of_ble_eq_true rfl) dX0_heatsOf_99
      · replace hs := ifn c23 hs
        refine lv_iload_n hx hb dX0_heatsOf_24 rfl (lv_at hl 1 rfl) ?_
        refine lv_iload hx hb dX0_heatsOf_25 (lv_at hl 7 rfl) ?_
        refine lv_ishr hx hb dX0_heatsOf_27 ?_
        refine lv_iconst (v := 1) hx hb dX0_heatsOf_28 (by decide) ?_
        refine lv_iand hx hb dX0_heatsOf_29 ?_
        obtain ⟨k45_10, hk45_10, hs⟩ := jn_ex hs
        have Ek45_10 : ∀ (x9 : Int32) (x10 : Int32) (H : Heap) (locs : List Loc) (ls : Array Slot), k45_10 x9 x10 → xI D dT A s.heap C5 H locs → lv_has ls 8 [(0, .ref a0), (1, .int a1), (2, .int a2), (3, .ref a3), (4, .int x1), (5, .int x9), (6, .int x10), (7, .int x4)] → W p l e (xRm 10 228 0 0) s m args below meth c H locs 0 0 (MQ below (xQi D dT K A) args s 0 0 A) (F0 m 45 ls []) := by
          intro x9 x10 H locs ls hs hI hl
          rw [hk45_10] at hs
          refine lv_iload hx hb dX0_heatsOf_45 (lv_at hl 6 rfl) ?_
          refine lv_iload_n hx hb dX0_heatsOf_47 rfl (lv_at hl 2 rfl) ?_
          obtain ⟨k65_10, hk65_10, hs⟩ := jn_ex hs
          have Ek65_10 : ∀ (H : Heap) (locs : List Loc) (ls : Array Slot), k65_10 → xI D dT A s.heap C5 H locs → lv_has ls 8 [(0, .ref a0), (1, .int a1), (2, .int a2), (3, .ref a3), (4, .int x1), (5, .int x9), (7, .int x4)] → W p l e (xRm 10 228 0 0) s m args below meth c H locs 0 0 (MQ below (xQi D dT K A) args s 0 0 A) (F0 m 65 ls []) := by
            intro H locs ls hs hI hl
            rw [hk65_10] at hs
            refine lv_iload hx hb dX0_heatsOf_65 (lv_at hl 4 rfl) ?_
            refine lv_iconst (v := 1) hx hb dX0_heatsOf_67 (by decide) ?_
            refine lv_aload_n hx hb dX0_heatsOf_68 rfl (lv_at hl 0 rfl) ?_
            refine lv_iload hx hb dX0_heatsOf_69 (lv_at hl 5 rfl) ?_
            obtain ⟨h12, hs⟩ := hs
            obtain ⟨fh12, h12⟩ := xcl_spec h12
            refine x_goi hA hI (x_runV (As := [.int x9]) (rest := [.int 1, .int x1]) X hK hA hG hI h12 (q := (RX0, TX0, 10)) rfl rfl (xet_X0_winnerOf l a0 x9 _ _ hs) iX0_winnerOf q1218 q1220 qs26 q94 ⟨(Nat.le_of_ble_eq_true rfl), (Nat.le_of_ble_eq_true rfl)⟩ rfl hl.1 rfl (Nat.le_of_ble_eq_true rfl) dX0_heatsOf_71 ⟨(Nat.le_of_ble_eq_true rfl), (Nat.le_of_ble_eq_true rfl)⟩) (fun r12 C11 H locs hs9 hI => ?_)
            replace hs := hs9
            refine lv_ishl hx hb dX0_heatsOf_74 ?_
            refine lv_ior hx hb dX0_heatsOf_75 ?_
            refine lv_istore (lv' := [(4, .int (x1 ||| (1 <<< (r12 &&& 31)))), (0, .ref a0), (1, .int a1), (2, .int a2), (3, .ref a3), (5, .int x9), (7, .int x4)]) hx hb dX0_heatsOf_76 hl (by decide) rfl (fun ls hl => ?_)
            refine lv_aload_n hx hb dX0_heatsOf_78 rfl (lv_at hl 4 rfl) ?_
            refine lv_iconst (v := 0) hx hb dX0_heatsOf_79 (by decide) ?_
            refine lv_dup2_11 hx hb dX0_heatsOf_80 rfl rfl ?_
            obtain ⟨v14, ev14, hs⟩ := hs
            refine x_iald X hK hI ev14 dX0_heatsOf_81 ?_
            refine lv_iconst (v := 1) hx hb dX0_heatsOf_82 (by decide) ?_
            refine lv_iadd hx hb dX0_heatsOf_83 ?_
            obtain ⟨C15, eC15, hs⟩ := hs
            refine x_iast X hK hI eC15 dX0_heatsOf_84 (fun H locs hI => ?_)
            refine lv_iconst (v := 0) hx hb dX0_heatsOf_85 (by decide) ?_
            refine lv_istore (lv' := [(5, .int 0), (4, .int (x1 ||| (1 <<< (r12 &&& 31)))), (0, .ref a0), (1, .int a1), (2, .int a2), (3, .ref a3), (7, .int x4)]) hx hb dX0_heatsOf_86 hl (by decide) rfl (fun ls hl => ?_)
            refine lv_iconst (v := 0) hx hb dX0_heatsOf_88 (by decide) ?_
            refine lv_istore (lv' := [(6, .int 0), (5, .int 0), (4, .int (x1 ||| (1 <<< (r12 &&& 31)))), (0, .ref a0), (1, .int a1), (2, .int a2), (3, .ref a3), (7, .int x4)]) hx hb dX0_heatsOf_89 hl (by decide) rfl (fun ls hl => ?_)
            refine lv_iinc (v := (x4 + 1)) (lv' := [(7, .int (x4 + 1)), (6, .int 0), (5, .int 0), (4, .int (x1 ||| (1 <<< (r12 &&& 31)))), (0, .ref a0), (1, .int a1), (2, .int a2), (3, .ref a3)]) hx hb dX0_heatsOf_91 hl (k := 7) rfl (congrArg (fun z => x4 + z) (show Int32.ofInt (1) = 1 by decide)) (by decide) rfl (fun ls hl => ?_)
            refine lv_goto (tgt := 12) hx hb dX0_heatsOf_94 (by decide) ?_
            exact ihx_X0_heatsOf_l12 _ _ _ _ _ _ _ _ hs hI (lv_sub hl [4, 5, 6, 7, 3, 2, 1, 0] rfl)
          obtain ⟨k91_19, hk91_19, hs⟩ := jn_ex hs
          have Ek91_19 : ∀ (x16 : Int32) (x17 : Int32) (x18 : Int32) (C19 : XH) (H : Heap) (locs : List Loc) (ls : Array Slot), k91_19 x16 x17 x18 C19 → xI D dT A s.heap C19 H locs → lv_has ls 8 [(0, .ref a0), (1, .int a1), (2, .int a2), (3, .ref a3), (4, .int x16), (5, .int x17), (6, .int x18), (7, .int x4)] → W p l e (xRm 10 228 0 0) s m args below meth c H locs 0 0 (MQ below (xQi D dT K A) args s 0 0 A) (F0 m 91 ls []) := by
            intro x16 x17 x18 C19 H locs ls hs hI hl
            rw [hk91_19] at hs
            refine lv_iinc (v := (x4 + 1)) (lv' := [(7, .int (x4 + 1)), (0, .ref a0), (1, .int a1), (2, .int a2), (3, .ref a3), (4, .int x16), (5, .int x17), (6, .int x18)]) hx hb dX0_heatsOf_91 hl (k := 7) rfl (congrArg (fun z => x4 + z) (show Int32.ofInt (1) = 1 by decide)) (by decide) rfl (fun ls hl => ?_)
            refine lv_goto (tgt := 12) hx hb dX0_heatsOf_94 (by decide) ?_
            exact ihx_X0_heatsOf_l12 _ _ _ _ _ _ _ _ hs hI (lv_sub hl [1, 2, 3, 4, 5, 6, 7, 0] rfl)
          refine lv_icmp_eq (tgt := 65) hx hb dX0_heatsOf_48 (by decide) (fun c21 => ?_) (fun c21 => ?_)
          · replace hs := ifp c21 hs
            exact Ek65_10 _ _ _ hs hI (lv_sub hl [0, 1, 2, 3, 4, 5, 7] rfl)
          · replace hs := ifn c21 hs
            refine lv_iload hx hb dX0_heatsOf_51 (lv_at hl 5 rfl) ?_
            refine lv_if_eq (tgt := 91) hx hb dX0_heatsOf_53 (by decide) (fun c20 => ?_) (fun c20 => ?_)
            · replace hs := ifp c20 hs
              exact Ek91_19 _ _ _ _ _ _ _ hs hI hl
            · replace hs := ifn c20 hs
              refine lv_iload_n hx hb dX0_heatsOf_56 rfl (lv_at hl 1 rfl) ?_
              refine lv_iload hx hb dX0_heatsOf_57 (lv_at hl 7 rfl) ?_
              refine lv_iconst (v := 1) hx hb dX0_heatsOf_59 (by decide) ?_
              refine lv_iadd hx hb dX0_heatsOf_60 ?_
              refine lv_ishr hx hb dX0_heatsOf_61 ?_
              refine lv_if_ne (tgt := 91) hx hb dX0_heatsOf_62 (by decide) (fun c19 => ?_) (fun c19 => ?_)
              · replace hs := ifn c19 hs
                exact Ek91_19 _ _ _ _ _ _ _ hs hI hl
              · replace hs := ifp c19 hs
                exact Ek65_10 _ _ _ hs hI (lv_sub hl [0, 1, 2, 3, 4, 5, 7] rfl)
        refine lv_if_eq (tgt := 45) hx hb dX0_heatsOf_30 (by decide) (fun c22 => ?_) (fun c22 => ?_)
        · replace hs := ifp c22 hs
          exact Ek45_10 _ _ _ _ _ hs hI hl
        · replace hs := ifn c22 hs
          refine lv_iload hx hb dX0_heatsOf_33 (lv_at hl 5 rfl) ?_
          refine lv_iconst (v := 1) hx hb dX0_heatsOf_35 (by decide) ?_
          refine lv_iload hx hb dX0_heatsOf_36 (lv_at hl 7 rfl) ?_
          refine lv_ishl hx hb dX0_heatsOf_38 ?_
          refine lv_ior hx hb dX0_heatsOf_39 ?_
          refine lv_istore (lv' := [(5, .int (x2 ||| (1 <<< (x4 &&& 31)))), (0, .ref a0), (1, .int a1), (2, .int a2), (3, .ref a3), (4, .int x1), (6, .int x3), (7, .int x4)]) hx hb dX0_heatsOf_40 hl (by decide) rfl (fun ls hl => ?_)
          refine lv_iinc (v := (x3 + 1)) (lv' := [(6, .int (x3 + 1)), (5, .int (x2 ||| (1 <<< (x4 &&& 31)))), (0, .ref a0), (1, .int a1), (2, .int a2), (3, .ref a3), (4, .int x1), (7, .int x4)]) hx hb dX0_heatsOf_42 hl (k := 6) rfl (congrArg (fun z => x3 + z) (show Int32.ofInt (1) = 1 by decide)) (by decide) rfl (fun ls hl => ?_)
          exact Ek45_10 _ _ _ _ _ hs hI (lv_sub hl [2, 3, 4, 5, 6, 1, 0, 7] rfl)
  exact Lx_X0_heatsOf_l12 NF _ _ _ _ _ _ _ _ hs hI (lv_sub hl [4, 5, 6, 7, 3, 2, 1, 0] rfl)
def x_J12_bitCount (a0 : Int32) (C : XH) (K : Int32 → XH → Prop) : Prop := K ((((((((a0 - ((((a0 : Int32).toUInt32 >>> ((1 : Int32).toUInt32 &&& Int32.toUInt32 31)).toInt32) &&& 1431655765)) &&& 858993459) + (((((a0 - ((((a0 : Int32).toUInt32 >>> ((1 : Int32).toUInt32 &&& Int32.toUInt32 31)).toInt32) &&& 1431655765)) : Int32).toUInt32 >>> ((2 : Int32).toUInt32 &&& Int32.toUInt32 31)).toInt32) &&& 858993459)) + ((((((a0 - ((((a0 : Int32).toUInt32 >>> ((1 : Int32).toUInt32 &&& Int32.toUInt32 31)).toInt32) &&& 1431655765)) &&& 858993459) + (((((a0 - ((((a0 : Int32).toUInt32 >>> ((1 : Int32).toUInt32 &&& Int32.toUInt32 31)).toInt32) &&& 1431655765)) : Int32).toUInt32 >>> ((2 : Int32).toUInt32 &&& Int32.toUInt32 31)).toInt32) &&& 858993459)) : Int32).toUInt32 >>> ((4 : Int32).toUInt32 &&& Int32.toUInt32 31)).toInt32)) &&& 252645135) + ((((((((a0 - ((((a0 : Int32).toUInt32 >>> ((1 : Int32).toUInt32 &&& Int32.toUInt32 31)).toInt32) &&& 1431655765)) &&& 858993459) + (((((a0 - ((((a0 : Int32).toUInt32 >>> ((1 : Int32).toUInt32 &&& Int32.toUInt32 31)).toInt32) &&& 1431655765)) : Int32).toUInt32 >>> ((2 : Int32).toUInt32 &&& Int32.toUInt32 31)).toInt32) &&& 858993459)) + ((((((a0 - ((((a0 : Int32).toUInt32 >>> ((1 : Int32).toUInt32 &&& Int32.toUInt32 31)).toInt32) &&& 1431655765)) &&& 858993459) + (((((a0 - ((((a0 : Int32).toUInt32 >>> ((1 : Int32).toUInt32 &&& Int32.toUInt32 31)).toInt32) &&& 1431655765)) : Int32).toUInt32 >>> ((2 : Int32).toUInt32 &&& Int32.toUInt32 31)).toInt32) &&& 858993459)) : Int32).toUInt32 >>> ((4 : Int32).toUInt32 &&& Int32.toUInt32 31)).toInt32)) &&& 252645135) : Int32).toUInt32 >>> ((8 : Int32).toUInt32 &&& Int32.toUInt32 31)).toInt32)) + (((((((((a0 - ((((a0 : Int32).toUInt32 >>> ((1 : Int32).toUInt32 &&& Int32.toUInt32 31)).toInt32) &&& 1431655765)) &&& 858993459) + (((((a0 - ((((a0 : Int32).toUInt32 >>> ((1 : Int32).toUInt32 &&& Int32.toUInt32 31)).toInt32) &&& 1431655765)) : Int32).toUInt32 >>> ((2 : Int32).toUInt32 &&& Int32.toUInt32 31)).toInt32) &&& 858993459)) + ((((((a0 - ((((a0 : Int32).toUInt32 >>> ((1 : Int32).toUInt32 &&& Int32.toUInt32 31)).toInt32) &&& 1431655765)) &&& 858993459) + (((((a0 - ((((a0 : Int32).toUInt32 >>> ((1 : Int32).toUInt32 &&& Int32.toUInt32 31)).toInt32) &&& 1431655765)) : Int32).toUInt32 >>> ((2 : Int32).toUInt32 &&& Int32.toUInt32 31)).toInt32) &&& 858993459)) : Int32).toUInt32 >>> ((4 : Int32).toUInt32 &&& Int32.toUInt32 31)).toInt32)) &&& 252645135) + ((((((((a0 - ((((a0 : Int32).toUInt32 >>> ((1 : Int32).toUInt32 &&& Int32.toUInt32 31)).toInt32) &&& 1431655765)) &&& 858993459) + (((((a0 - ((((a0 : Int32).toUInt32 >>> ((1 : Int32).toUInt32 &&& Int32.toUInt32 31)).toInt32) &&& 1431655765)) : Int32).toUInt32 >>> ((2 : Int32).toUInt32 &&& Int32.toUInt32 31)).toInt32) &&& 858993459)) + ((((((a0 - ((((a0 : Int32).toUInt32 >>> ((1 : Int32).toUInt32 &&& Int32.toUInt32 31)).toInt32) &&& 1431655765)) &&& 858993459) + (((((a0 - ((((a0 : Int32).toUInt32 >>> ((1 : Int32).toUInt32 &&& Int32.toUInt32 31)).toInt32) &&& 1431655765)) : Int32).toUInt32 >>> ((2 : Int32).toUInt32 &&& Int32.toUInt32 31)).toInt32) &&& 858993459)) : Int32).toUInt32 >>> ((4 : Int32).toUInt32 &&& Int32.toUInt32 31)).toInt32)) &&& 252645135) : Int32).toUInt32 >>> ((8 : Int32).toUInt32 &&& Int32.toUInt32 31)).toInt32)) : Int32).toUInt32 >>> ((16 : Int32).toUInt32 &&& Int32.toUInt32 31)).toInt32)) &&& 63) C
theorem iJ12_bitCount : xInf yJ12_bitCount cJ12_bitCount 1 (some .int) 1 := ⟨q1303, by decide +kernel⟩
set_option maxHeartbeats 4000000 in
theorem xet_J12_bitCount (l : Launch) (a0 : Int32) (C : XH) (K : Int32 → XH → Prop) (hs : x_J12_bitCount a0 C K) : xMeti l yJ12_bitCount (ws_ yJ12_bitCount cJ12_bitCount 1 (some .int)) 0 0 0 0 C [.int a0] K := by
  intro D dT adK adV sz
  refine xEnter (own := RJ12) (Qc := xQi D dT K) (by decide) rfl (by rfl) ?_
  intro p e s m args below meth c A ls X hnm hK hA hG hI hl
  have hx := X.1
  have hb := X.2.1
  have hts := X.2.2.2.2.1
  have hown := X.2.2.2.2.2.1
  have hl : lv_has ls 1 [(0, .int a0)] := hl
  unfold x_J12_bitCount at hs
  refine lv_iload_n hx hb dJ12_bitCount_0 rfl (lv_at hl 0 rfl) ?_
  refine lv_iload_n hx hb dJ12_bitCount_1 rfl (lv_at hl 0 rfl) ?_
  refine lv_iconst (v := 1) hx hb dJ12_bitCount_2 (by decide) ?_
  refine lv_iushr (v := (((a0 : Int32).toUInt32 >>> ((1 : Int32).toUInt32 &&& Int32.toUInt32 31)).toInt32)) hx hb dJ12_bitCount_3 rfl ?_
  refine lv_ldcw hx hb hown (hts _ q1304) dJ12_bitCount_4 ?_
  refine lv_iand hx hb dJ12_bitCount_7 ?_
  refine lv_isub hx hb dJ12_bitCount_8 ?_
  refine lv_istore_n (lv' := [(0, .int (a0 - ((((a0 : Int32).toUInt32 >>> ((1 : Int32).toUInt32 &&& Int32.toUInt32 31)).toInt32) &&& 1431655765)))]) hx hb dJ12_bitCount_9 rfl hl (by decide) rfl (fun ls hl => ?_)
  refine lv_iload_n hx hb dJ12_bitCount_10 rfl (lv_at hl 0 rfl) ?_
  refine lv_ldcw hx hb hown (hts _ q1305) dJ12_bitCount_11 ?_
  refine lv_iand hx hb dJ12_bitCount_14 ?_
  refine lv_iload_n hx hb dJ12_bitCount_15 rfl (lv_at hl 0 rfl) ?_
  refine lv_iconst (v := 2) hx hb dJ12_bitCount_16 (by decide) ?_
  refine lv_iushr (v := ((((a0 - ((((a0 : Int32).toUInt32 >>> ((1 : Int32).toUInt32 &&& Int32.toUInt32 31)).toInt32) &&& 1431655765)) : Int32).toUInt32 >>> ((2 : Int32).toUInt32 &&& Int32.toUInt32 31)).toInt32)) hx hb dJ12_bitCount_17 rfl ?_
  refine lv_ldcw hx hb hown (hts _ q1305) dJ12_bitCount_18 ?_
  refine lv_iand hx hb dJ12_bitCount_21 ?_
  refine lv_iadd hx hb dJ12_bitCount_22 ?_
  refine lv_istore_n (lv' := [(0, .int (((a0 - ((((a0 : Int32).toUInt32 >>> ((1 : Int32).toUInt32 &&& Int32.toUInt32 31)).toInt32) &&& 1431655765)) &&& 858993459) + (((((a0 - ((((a0 : Int32).toUInt32 >>> ((1 : Int32).toUInt32 &&& Int32.toUInt32 31)).toInt32) &&& 1431655765)) : Int32).toUInt32 >>> ((2 : Int32).toUInt32 &&& Int32.toUInt32 31)).toInt32) &&& 858993459)))]) hx hb dJ12_bitCount_23 rfl hl (by decide) rfl (fun ls hl => ?_)
  refine lv_iload_n hx hb dJ12_bitCount_24 rfl (lv_at hl 0 rfl) ?_
  refine lv_iload_n hx hb dJ12_bitCount_25 rfl (lv_at hl 0 rfl) ?_
  refine lv_iconst (v := 4) hx hb dJ12_bitCount_26 (by decide) ?_
  refine lv_iushr (v := ((((((a0 - ((((a0 : Int32).toUInt32 >>> ((1 : Int32).toUInt32 &&& Int32.toUInt32 31)).toInt32) &&& 1431655765)) &&& 858993459) + (((((a0 - ((((a0 : Int32).toUInt32 >>> ((1 : Int32).toUInt32 &&& Int32.toUInt32 31)).toInt32) &&& 1431655765)) : Int32).toUInt32 >>> ((2 : Int32).toUInt32 &&& Int32.toUInt32 31)).toInt32) &&& 858993459)) : Int32).toUInt32 >>> ((4 : Int32).toUInt32 &&& Int32.toUInt32 31)).toInt32)) hx hb dJ12_bitCount_27 rfl ?_
  refine lv_iadd hx hb dJ12_bitCount_28 ?_
  refine lv_ldcw hx hb hown (hts _ q1306) dJ12_bitCount_29 ?_
  refine lv_iand hx hb dJ12_bitCount_32 ?_
  refine lv_istore_n (lv' := [(0, .int (((((a0 - ((((a0 : Int32).toUInt32 >>> ((1 : Int32).toUInt32 &&& Int32.toUInt32 31)).toInt32) &&& 1431655765)) &&& 858993459) + (((((a0 - ((((a0 : Int32).toUInt32 >>> ((1 : Int32).toUInt32 &&& Int32.toUInt32 31)).toInt32) &&& 1431655765)) : Int32).toUInt32 >>> ((2 : Int32).toUInt32 &&& Int32.toUInt32 31)).toInt32) &&& 858993459)) + ((((((a0 - ((((a0 : Int32).toUInt32 >>> ((1 : Int32).toUInt32 &&& Int32.toUInt32 31)).toInt32) &&& 1431655765)) &&& 858993459) + (((((a0 - ((((a0 : Int32).toUInt32 >>> ((1 : Int32).toUInt32 &&& Int32.toUInt32 31)).toInt32) &&& 1431655765)) : Int32).toUInt32 >>> ((2 : Int32).toUInt32 &&& Int32.toUInt32 31)).toInt32) &&& 858993459)) : Int32).toUInt32 >>> ((4 : Int32).toUInt32 &&& Int32.toUInt32 31)).toInt32)) &&& 252645135))]) hx hb dJ12_bitCount_33 rfl hl (by decide) rfl (fun ls hl => ?_)
  refine lv_iload_n hx hb dJ12_bitCount_34 rfl (lv_at hl 0 rfl) ?_
  refine lv_iload_n hx hb dJ12_bitCount_35 rfl (lv_at hl 0 rfl) ?_
  refine lv_bipush (v := 8) hx hb dJ12_bitCount_36 (by decide) ?_
  refine lv_iushr (v := ((((((((a0 - ((((a0 : Int32).toUInt32 >>> ((1 : Int32).toUInt32 &&& Int32.toUInt32 31)).toInt32) &&& 1431655765)) &&& 858993459) + (((((a0 - ((((a0 : Int32).toUInt32 >>> ((1 : Int32).toUInt32 &&& Int32.toUInt32 31)).toInt32) &&& 1431655765)) : Int32).toUInt32 >>> ((2 : Int32).toUInt32 &&& Int32.toUInt32 31)).toInt32) &&& 858993459)) + ((((((a0 - ((((a0 : Int32).toUInt32 >>> ((1 : Int32).toUInt32 &&& Int32.toUInt32 31)).toInt32) &&& 1431655765)) &&& 858993459) + (((((a0 - ((((a0 : Int32).toUInt32 >>> ((1 : Int32).toUInt32 &&& Int32.toUInt32 31)).toInt32) &&& 1431655765)) : Int32).toUInt32 >>> ((2 : Int32).toUInt32 &&& Int32.toUInt32 31)).toInt32) &&& 858993459)) : Int32).toUInt32 >>> ((4 : Int32).toUInt32 &&& Int32.toUInt32 31)).toInt32)) &&& 252645135) : Int32).toUInt32 >>> ((8 : Int32).toUInt32 &&& Int32.toUInt32 31)).toInt32)) hx hb dJ12_bitCount_38 rfl ?_
  refine lv_iadd hx hb dJ12_bitCount_39 ?_
  refine lv_istore_n (lv' := [(0, .int ((((((a0 - ((((a0 : Int32).toUInt32 >>> ((1 : Int32).toUInt32 &&& Int32.toUInt32 31)).toInt32) &&& 1431655765)) &&& 858993459) + (((((a0 - ((((a0 : Int32).toUInt32 >>> ((1 : Int32).toUInt32 &&& Int32.toUInt32 31)).toInt32) &&& 1431655765)) : Int32).toUInt32 >>> ((2 : Int32).toUInt32 &&& Int32.toUInt32 31)).toInt32) &&& 858993459)) + ((((((a0 - ((((a0 : Int32).toUInt32 >>> ((1 : Int32).toUInt32 &&& Int32.toUInt32 31)).toInt32) &&& 1431655765)) &&& 858993459) + (((((a0 - ((((a0 : Int32).toUInt32 >>> ((1 : Int32).toUInt32 &&& Int32.toUInt32 31)).toInt32) &&& 1431655765)) : Int32).toUInt32 >>> ((2 : Int32).toUInt32 &&& Int32.toUInt32 31)).toInt32) &&& 858993459)) : Int32).toUInt32 >>> ((4 : Int32).toUInt32 &&& Int32.toUInt32 31)).toInt32)) &&& 252645135) + ((((((((a0 - ((((a0 : Int32).toUInt32 >>> ((1 : Int32).toUInt32 &&& Int32.toUInt32 31)).toInt32) &&& 1431655765)) &&& 858993459) + (((((a0 - ((((a0 : Int32).toUInt32 >>> ((1 : Int32).toUInt32 &&& Int32.toUInt32 31)).toInt32) &&& 1431655765)) : Int32).toUInt32 >>> ((2 : Int32).toUInt32 &&& Int32.toUInt32 31)).toInt32) &&& 858993459)) + ((((((a0 - ((((a0 : Int32).toUInt32 >>> ((1 : Int32).toUInt32 &&& Int32.toUInt32 31)).toInt32) &&& 1431655765)) &&& 858993459) + (((((a0 - ((((a0 : Int32).toUInt32 >>> ((1 : Int32).toUInt32 &&& Int32.toUInt32 31)).toInt32) &&& 1431655765)) : Int32).toUInt32 >>> ((2 : Int32).toUInt32 &&& Int32.toUInt32 31)).toInt32) &&& 858993459)) : Int32).toUInt32 >>> ((4 : Int32).toUInt32 &&& Int32.toUInt32 31)).toInt32)) &&& 252645135) : Int32).toUInt32 >>> ((8 : Int32).toUInt32 &&& Int32.toUInt32 31)).toInt32)))]) hx hb dJ12_bitCount_40 rfl hl (by decide) rfl (fun ls hl => ?_)
  refine lv_iload_n hx hb dJ12_bitCount_41 rfl (lv_at hl 0 rfl) ?_
  refine lv_iload_n hx hb dJ12_bitCount_42 rfl (lv_at hl 0 rfl) ?_
  refine lv_bipush (v := 16) hx hb dJ12_bitCount_43 (by decide) ?_
  refine lv_iushr (v := (((((((((a0 - ((((a0 : Int32).toUInt32 >>> ((1 : Int32).toUInt32 &&& Int32.toUInt32 31)).toInt32) &&& 1431655765)) &&& 858993459) + (((((a0 - ((((a0 : Int32).toUInt32 >>> ((1 : Int32).toUInt32 &&& Int32.toUInt32 31)).toInt32) &&& 1431655765)) : Int32).toUInt32 >>> ((2 : Int32).toUInt32 &&& Int32.toUInt32 31)).toInt32) &&& 858993459)) + ((((((a0 - ((((a0 : Int32).toUInt32 >>> ((1 : Int32).toUInt32 &&& Int32.toUInt32 31)).toInt32) &&& 1431655765)) &&& 858993459) + (((((a0 - ((((a0 : Int32).toUInt32 >>> ((1 : Int32).toUInt32 &&& Int32.toUInt32 31)).toInt32) &&& 1431655765)) : Int32).toUInt32 >>> ((2 : Int32).toUInt32 &&& Int32.toUInt32 31)).toInt32) &&& 858993459)) : Int32).toUInt32 >>> ((4 : Int32).toUInt32 &&& Int32.toUInt32 31)).toInt32)) &&& 252645135) + ((((((((a0 - ((((a0 : Int32).toUInt32 >>> ((1 : Int32).toUInt32 &&& Int32.toUInt32 31)).toInt32) &&& 1431655765)) &&& 858993459) + (((((a0 - ((((a0 : Int32).toUInt32 >>> ((1 : Int32).toUInt32 &&& Int32.toUInt32 31)).toInt32) &&& 1431655765)) : Int32).toUInt32 >>> ((2 : Int32).toUInt32 &&& Int32.toUInt32 31)).toInt32) &&& 858993459)) + ((((((a0 - ((((a0 : Int32).toUInt32 >>> ((1 : Int32).toUInt32 &&& Int32.toUInt32 31)).toInt32) &&& 1431655765)) &&& 858993459) + (((((a0 - ((((a0 : Int32).toUInt32 >>> ((1 : Int32).toUInt32 &&& Int32.toUInt32 31)).toInt32) &&& 1431655765)) : Int32).toUInt32 >>> ((2 : Int32).toUInt32 &&& Int32.toUInt32 31)).toInt32) &&& 858993459)) : Int32).toUInt32 >>> ((4 : Int32).toUInt32 &&& Int32.toUInt32 31)).toInt32)) &&& 252645135) : Int32).toUInt32 >>> ((8 : Int32).toUInt32 &&& Int32.toUInt32 31)).toInt32)) : Int32).toUInt32 >>> ((16 : Int32).toUInt32 &&& Int32.toUInt32 31)).toInt32)) hx hb dJ12_bitCount_45 rfl ?_
  refine lv_iadd hx hb dJ12_bitCount_46 ?_
  refine lv_istore_n (lv' := [(0, .int (((((((a0 - ((((a0 : Int32).toUInt32 >>> ((1 : Int32).toUInt32 &&& Int32.toUInt32 31)).toInt32) &&& 1431655765)) &&& 858993459) + (((((a0 - ((((a0 : Int32).toUInt32 >>> ((1 : Int32).toUInt32 &&& Int32.toUInt32 31)).toInt32) &&& 1431655765)) : Int32).toUInt32 >>> ((2 : Int32).toUInt32 &&& Int32.toUInt32 31)).toInt32) &&& 858993459)) + ((((((a0 - ((((a0 : Int32).toUInt32 >>> ((1 : Int32).toUInt32 &&& Int32.toUInt32 31)).toInt32) &&& 1431655765)) &&& 858993459) + (((((a0 - ((((a0 : Int32).toUInt32 >>> ((1 : Int32).toUInt32 &&& Int32.toUInt32 31)).toInt32) &&& 1431655765)) : Int32).toUInt32 >>> ((2 : Int32).toUInt32 &&& Int32.toUInt32 31)).toInt32) &&& 858993459)) : Int32).toUInt32 >>> ((4 : Int32).toUInt32 &&& Int32.toUInt32 31)).toInt32)) &&& 252645135) + ((((((((a0 - ((((a0 : Int32).toUInt32 >>> ((1 : Int32).toUInt32 &&& Int32.toUInt32 31)).toInt32) &&& 1431655765)) &&& 858993459) + (((((a0 - ((((a0 : Int32).toUInt32 >>> ((1 : Int32).toUInt32 &&& Int32.toUInt32 31)).toInt32) &&& 1431655765)) : Int32).toUInt32 >>> ((2 : Int32).toUInt32 &&& Int32.toUInt32 31)).toInt32) &&& 858993459)) + ((((((a0 - ((((a0 : Int32).toUInt32 >>> ((1 : Int32).toUInt32 &&& Int32.toUInt32 31)).toInt32) &&& 1431655765)) &&& 858993459) + (((((a0 - ((((a0 : Int32).toUInt32 >>> ((1 : Int32).toUInt32 &&& Int32.toUInt32 31)).toInt32) &&& 1431655765)) : Int32).toUInt32 >>> ((2 : Int32).toUInt32 &&& Int32.toUInt32 31)).toInt32) &&& 858993459)) : Int32).toUInt32 >>> ((4 : Int32).toUInt32 &&& Int32.toUInt32 31)).toInt32)) &&& 252645135) : Int32).toUInt32 >>> ((8 : Int32).toUInt32 &&& Int32.toUInt32 31)).toInt32)) + (((((((((a0 - ((((a0 : Int32).toUInt32 >>> ((1 : Int32).toUInt32 &&& Int32.toUInt32 31)).toInt32) &&& 1431655765)) &&& 858993459) + (((((a0 - ((((a0 : Int32).toUInt32 >>> ((1 : Int32).toUInt32 &&& Int32.toUInt32 31)).toInt32) &&& 1431655765)) : Int32).toUInt32 >>> ((2 : Int32).toUInt32 &&& Int32.toUInt32 31)).toInt32) &&& 858993459)) + ((((((a0 - ((((a0 : Int32).toUInt32 >>> ((1 : Int32).toUInt32 &&& Int32.toUInt32 31)).toInt32) &&& 1431655765)) &&& 858993459) + (((((a0 - ((((a0 : Int32).toUInt32 >>> ((1 : Int32).toUInt32 &&& Int32.toUInt32 31)).toInt32) &&& 1431655765)) : Int32).toUInt32 >>> ((2 : Int32).toUInt32 &&& Int32.toUInt32 31)).toInt32) &&& 858993459)) : Int32).toUInt32 >>> ((4 : Int32).toUInt32 &&& Int32.toUInt32 31)).toInt32)) &&& 252645135) + ((((((((a0 - ((((a0 : Int32).toUInt32 >>> ((1 : Int32).toUInt32 &&& Int32.toUInt32 31)).toInt32) &&& 1431655765)) &&& 858993459) + (((((a0 - ((((a0 : Int32).toUInt32 >>> ((1 : Int32).toUInt32 &&& Int32.toUInt32 31)).toInt32) &&& 1431655765)) : Int32).toUInt32 >>> ((2 : Int32).toUInt32 &&& Int32.toUInt32 31)).toInt32) &&& 858993459)) + ((((((a0 - ((((a0 : Int32).toUInt32 >>> ((1 : Int32).toUInt32 &&& Int32.toUInt32 31)).toInt32) &&& 1431655765)) &&& 858993459) + (((((a0 - ((((a0 : Int32).toUInt32 >>> ((1 : Int32).toUInt32 &&& Int32.toUInt32 31)).toInt32) &&& 1431655765)) : Int32).toUInt32 >>> ((2 : Int32).toUInt32 &&& Int32.toUInt32 31)).toInt32) &&& 858993459)) : Int32).toUInt32 >>> ((4 : Int32).toUInt32 &&& Int32.toUInt32 31)).toInt32)) &&& 252645135) : Int32).toUInt32 >>> ((8 : Int32).toUInt32 &&& Int32.toUInt32 31)).toInt32)) : Int32).toUInt32 >>> ((16 : Int32).toUInt32 &&& Int32.toUInt32 31)).toInt32)))]) hx hb dJ12_bitCount_47 rfl hl (by decide) rfl (fun ls hl => ?_)
  refine lv_iload_n hx hb dJ12_bitCount_48 rfl (lv_at hl 0 rfl) ?_
  refine lv_bipush (v := 63) hx hb dJ12_bitCount_49 (by decide) ?_
  refine lv_iand hx hb dJ12_bitCount_51 ?_
  exact x_reti X hK hI hs (Nat.le_of_ble_eq_true rfl) (Nat.le_of_ble_eq_true rfl) dJ12_bitCount_52
def x_J12_numberOfTrailingZeros (a0 : Int32) (C : XH) (K : Int32 → XH → Prop) : Prop := (if 0 < ((a0 ^^^ (-1)) &&& (a0 - 1)) then jn (fun (x1 : Int32) (x2 : Int32) => jn (fun (x3 : Int32) (x4 : Int32) => jn (fun (x5 : Int32) (x6 : Int32) => (if x5 ≤ 4 then K (x6 + (((x5 : Int32).toUInt32 >>> ((1 : Int32).toUInt32 &&& Int32.toUInt32 31)).toInt32)) C else K ((x6 + 2) + ((((((x5 : Int32).toUInt32 >>> ((2 : Int32).toUInt32 &&& Int32.toUInt32 31)).toInt32) : Int32).toUInt32 >>> ((1 : Int32).toUInt32 &&& Int32.toUInt32 31)).toInt32)) C)) (fun k62_6 => (if x3 ≤ 16 then k62_6 x3 x4 else k62_6 (((x3 : Int32).toUInt32 >>> ((4 : Int32).toUInt32 &&& Int32.toUInt32 31)).toInt32) (x4 + 4)))) (fun k49_4 => (if x1 ≤ 256 then k49_4 x1 x2 else k49_4 (((x1 : Int32).toUInt32 >>> ((8 : Int32).toUInt32 &&& Int32.toUInt32 31)).toInt32) (x2 + 8)))) (fun k34_2 => (if ((a0 ^^^ (-1)) &&& (a0 - 1)) ≤ 65536 then k34_2 ((a0 ^^^ (-1)) &&& (a0 - 1)) 1 else k34_2 (((((a0 ^^^ (-1)) &&& (a0 - 1)) : Int32).toUInt32 >>> ((16 : Int32).toUInt32 &&& Int32.toUInt32 31)).toInt32) (1 + 16))) else K (((a0 ^^^ (-1)) &&& (a0 - 1)) &&& 32) C)
theorem iJ12_numberOfTrailingZeros : xInf yJ12_numberOfTrailingZeros cJ12_numberOfTrailingZeros 2 (some .int) 1 := ⟨q1313, by decide +kernel⟩
set_option maxHeartbeats 4000000 in
theorem xet_J12_numberOfTrailingZeros (l : Launch) (a0 : Int32) (C : XH) (K : Int32 → XH → Prop) (hs : x_J12_numberOfTrailingZeros a0 C K) : xMeti l yJ12_numberOfTrailingZeros (ws_ yJ12_numberOfTrailingZeros cJ12_numberOfTrailingZeros 2 (some .int)) 0 0 0 0 C [.int a0] K := by
  intro D dT adK adV sz
  refine xEnter (own := RJ12) (Qc := xQi D dT K) (by decide) rfl (by rfl) ?_
  intro p e s m args below meth c A ls X hnm hK hA hG hI hl
  have hx := X.1
  have hb := X.2.1
  have hts := X.2.2.2.2.1
  have hown := X.2.2.2.2.2.1
  have hl : lv_has ls 2 [(0, .int a0)] := hl
  unfold x_J12_numberOfTrailingZeros at hs
  refine lv_iload_n hx hb dJ12_numberOfTrailingZeros_0 rfl (lv_at hl 0 rfl) ?_
  refine lv_iconst (v := (-1)) hx hb dJ12_numberOfTrailingZeros_1 (by decide) ?_
  refine lv_ixor hx hb dJ12_numberOfTrailingZeros_2 ?_
  refine lv_iload_n hx hb dJ12_numberOfTrailingZeros_3 rfl (lv_at hl 0 rfl) ?_
  refine lv_iconst (v := 1) hx hb dJ12_numberOfTrailingZeros_4 (by decide) ?_
  refine lv_isub hx hb dJ12_numberOfTrailingZeros_5 ?_
  refine lv_iand hx hb dJ12_numberOfTrailingZeros_6 ?_
  refine lv_istore_n (lv' := [(0, .int ((a0 ^^^ (-1)) &&& (a0 - 1)))]) hx hb dJ12_numberOfTrailingZeros_7 rfl hl (by decide) rfl (fun ls hl => ?_)
  refine lv_iload_n hx hb dJ12_numberOfTrailingZeros_8 rfl (lv_at hl 0 rfl) ?_
  refine lv_if_gt (tgt := 17) hx hb dJ12_numberOfTrailingZeros_9 (by decide) (fun c10 => ?_) (fun c10 => ?_)
  · replace hs := ifp c10 hs
    refine lv_iconst (v := 1) hx hb dJ12_numberOfTrailingZeros_17 (by decide) ?_
    refine lv_istore_n (lv' := [(1, .int 1), (0, .int ((a0 ^^^ (-1)) &&& (a0 - 1)))]) hx hb dJ12_numberOfTrailingZeros_18 rfl hl (by decide) rfl (fun ls hl => ?_)
    refine lv_iload_n hx hb dJ12_numberOfTrailingZeros_19 rfl (lv_at hl 1 rfl) ?_
    refine lv_ldcw hx hb hown (hts _ q1314) dJ12_numberOfTrailingZeros_20 ?_
    obtain ⟨k34_2, hk34_2, hs⟩ := jn_ex hs
    have Ek34_2 : ∀ (x1 : Int32) (x2 : Int32) (H : Heap) (locs : List Loc) (ls : Array Slot), k34_2 x1 x2 → xI D dT A s.heap C H locs → lv_has ls 2 [(0, .int x1), (1, .int x2)] → W p l e (xRm 0 0 0 0) s m args below meth c H locs 0 0 (MQ below (xQi D dT K A) args s 0 0 A) (F0 m 34 ls []) := by
      intro x1 x2 H locs ls hs hI hl
      rw [hk34_2] at hs
      refine lv_iload_n hx hb dJ12_numberOfTrailingZeros_34 rfl (lv_at hl 0 rfl) ?_
      refine lv_sipush (v := 256) hx hb dJ12_numberOfTrailingZeros_35 (by decide) ?_
      obtain ⟨k49_4, hk49_4, hs⟩ := jn_ex hs
      have Ek49_4 : ∀ (x3 : Int32) (x4 : Int32) (H : Heap) (locs : List Loc) (ls : Array Slot), k49_4 x3 x4 → xI D dT A s.heap C H locs → lv_has ls 2 [(0, .int x3), (1, .int x4)] → W p l e (xRm 0 0 0 0) s m args below meth c H locs 0 0 (MQ below (xQi D dT K A) args s 0 0 A) (F0 m 49 ls []) := by
        intro x3 x4 H locs ls hs hI hl
        rw [hk49_4] at hs
        refine lv_iload_n hx hb dJ12_numberOfTrailingZeros_49 rfl (lv_at hl 0 rfl) ?_
        refine lv_bipush (v := 16) hx hb dJ12_numberOfTrailingZeros_50 (by decide) ?_
        obtain ⟨k62_6, hk62_6, hs⟩ := jn_ex hs
        have Ek62_6 : ∀ (x5 : Int32) (x6 : Int32) (H : Heap) (locs : List Loc) (ls : Array Slot), k62_6 x5 x6 → xI D dT A s.heap C H locs → lv_has ls 2 [(0, .int x5), (1, .int x6)] → W p l e (xRm 0 0 0 0) s m args below meth c H locs 0 0 (MQ below (xQi D dT K A) args s 0 0 A) (F0 m 62 ls []) := by
          intro x5 x6 H locs ls hs hI hl
          rw [hk62_6] at hs
          refine lv_iload_n hx hb dJ12_numberOfTrailingZeros_62 rfl (lv_at hl 0 rfl) ?_
          refine lv_iconst (v := 4) hx hb dJ12_numberOfTrailingZeros_63 (by decide) ?_
          refine lv_icmp_le (tgt := 74) hx hb dJ12_numberOfTrailingZeros_64 (by decide) (fun c6 => ?_) (fun c6 => ?_)
          · replace hs := ifp c6 hs
            refine lv_iload_n hx hb dJ12_numberOfTrailingZeros_74 rfl (lv_at hl 1 rfl) ?_
            refine lv_iload_n hx hb dJ12_numberOfTrailingZeros_75 rfl (lv_at hl 0 rfl) ?_
            refine lv_iconst (v := 1) hx hb dJ12_numberOfTrailingZeros_76 (by decide) ?_
            refine lv_iushr (v := (((x5 : Int32).toUInt32 >>> ((1 : Int32).toUInt32 &&& Int32.toUInt32 31)).toInt32)) hx hb dJ12_numberOfTrailingZeros_77 rfl ?_
            refine lv_iadd hx hb dJ12_numberOfTrailingZeros_78 ?_
            exact x_reti X hK hI hs (Nat.le_of_ble_eq_true rfl) (Nat.le_of_ble_eq_true rfl) dJ12_numberOfTrailingZeros_79
          · replace hs := ifn c6 hs
            refine lv_iinc (v := (x6 + 2)) (lv' := [(1, .int (x6 + 2)), (0, .int x5)]) hx hb dJ12_numberOfTrailingZeros_67 hl (k := 1) rfl (congrArg (fun z => x6 + z) (show Int32.ofInt (2) = 2 by decide)) (by decide) rfl (fun ls hl => ?_)
            refine lv_iload_n hx hb dJ12_numberOfTrailingZeros_70 rfl (lv_at hl 1 rfl) ?_
            refine lv_iconst (v := 2) hx hb dJ12_numberOfTrailingZeros_71 (by decide) ?_
            refine lv_iushr (v := (((x5 : Int32).toUInt32 >>> ((2 : Int32).toUInt32 &&& Int32.toUInt32 31)).toInt32)) hx hb dJ12_numberOfTrailingZeros_72 rfl ?_
            refine lv_istore_n (lv' := [(0, .int (((x5 : Int32).toUInt32 >>> ((2 : Int32).toUInt32 &&& Int32.toUInt32 31)).toInt32)), (1, .int (x6 + 2))]) hx hb dJ12_numberOfTrailingZeros_73 rfl hl (by decide) rfl (fun ls hl => ?_)
            refine lv_iload_n hx hb dJ12_numberOfTrailingZeros_74 rfl (lv_at hl 1 rfl) ?_
            refine lv_iload_n hx hb dJ12_numberOfTrailingZeros_75 rfl (lv_at hl 0 rfl) ?_
            refine lv_iconst (v := 1) hx hb dJ12_numberOfTrailingZeros_76 (by decide) ?_
            refine lv_iushr (v := ((((((x5 : Int32).toUInt32 >>> ((2 : Int32).toUInt32 &&& Int32.toUInt32 31)).toInt32) : Int32).toUInt32 >>> ((1 : Int32).toUInt32 &&& Int32.toUInt32 31)).toInt32)) hx hb dJ12_numberOfTrailingZeros_77 rfl ?_
            refine lv_iadd hx hb dJ12_numberOfTrailingZeros_78 ?_
            exact x_reti X hK hI hs (Nat.le_of_ble_eq_true rfl) (Nat.le_of_ble_eq_true rfl) dJ12_numberOfTrailingZeros_79
        refine lv_icmp_le (tgt := 62) hx hb dJ12_numberOfTrailingZeros_52 (by decide) (fun c7 => ?_) (fun c7 => ?_)
        · replace hs := ifp c7 hs
          exact Ek62_6 _ _ _ _ _ hs hI hl
        · replace hs := ifn c7 hs
          refine lv_iinc (v := (x4 + 4)) (lv' := [(1, .int (x4 + 4)), (0, .int x3)]) hx hb dJ12_numberOfTrailingZeros_55 hl (k := 1) rfl (congrArg (fun z => x4 + z) (show Int32.ofInt (4) = 4 by decide)) (by decide) rfl (fun ls hl => ?_)
          refine lv_iload_n hx hb dJ12_numberOfTrailingZeros_58 rfl (lv_at hl 1 rfl) ?_
          refine lv_iconst (v := 4) hx hb dJ12_numberOfTrailingZeros_59 (by decide) ?_
          refine lv_iushr (v := (((x3 : Int32).toUInt32 >>> ((4 : Int32).toUInt32 &&& Int32.toUInt32 31)).toInt32)) hx hb dJ12_numberOfTrailingZeros_60 rfl ?_
          refine lv_istore_n (lv' := [(0, .int (((x3 : Int32).toUInt32 >>> ((4 : Int32).toUInt32 &&& Int32.toUInt32 31)).toInt32)), (1, .int (x4 + 4))]) hx hb dJ12_numberOfTrailingZeros_61 rfl hl (by decide) rfl (fun ls hl => ?_)
          exact Ek62_6 _ _ _ _ _ hs hI hl
      refine lv_icmp_le (tgt := 49) hx hb dJ12_numberOfTrailingZeros_38 (by decide) (fun c8 => ?_) (fun c8 => ?_)
      · replace hs := ifp c8 hs
        exact Ek49_4 _ _ _ _ _ hs hI hl
      · replace hs := ifn c8 hs
        refine lv_iinc (v := (x2 + 8)) (lv' := [(1, .int (x2 + 8)), (0, .int x1)]) hx hb dJ12_numberOfTrailingZeros_41 hl (k := 1) rfl (congrArg (fun z => x2 + z) (show Int32.ofInt (8) = 8 by decide)) (by decide) rfl (fun ls hl => ?_)
        refine lv_iload_n hx hb dJ12_numberOfTrailingZeros_44 rfl (lv_at hl 1 rfl) ?_
        refine lv_bipush (v := 8) hx hb dJ12_numberOfTrailingZeros_45 (by decide) ?_
        refine lv_iushr (v := (((x1 : Int32).toUInt32 >>> ((8 : Int32).toUInt32 &&& Int32.toUInt32 31)).toInt32)) hx hb dJ12_numberOfTrailingZeros_47 rfl ?_
        refine lv_istore_n (lv' := [(0, .int (((x1 : Int32).toUInt32 >>> ((8 : Int32).toUInt32 &&& Int32.toUInt32 31)).toInt32)), (1, .int (x2 + 8))]) hx hb dJ12_numberOfTrailingZeros_48 rfl hl (by decide) rfl (fun ls hl => ?_)
        exact Ek49_4 _ _ _ _ _ hs hI hl
    refine lv_icmp_le (tgt := 34) hx hb dJ12_numberOfTrailingZeros_23 (by decide) (fun c9 => ?_) (fun c9 => ?_)
    · replace hs := ifp c9 hs
      exact Ek34_2 _ _ _ _ _ hs hI (lv_sub hl [1, 0] rfl)
    · replace hs := ifn c9 hs
      refine lv_iinc (v := (1 + 16)) (lv' := [(1, .int (1 + 16)), (0, .int ((a0 ^^^ (-1)) &&& (a0 - 1)))]) hx hb dJ12_numberOfTrailingZeros_26 hl (k := 0) rfl (congrArg (fun z => 1 + z) (show Int32.ofInt (16) = 16 by decide)) (by decide) rfl (fun ls hl => ?_)
      refine lv_iload_n hx hb dJ12_numberOfTrailingZeros_29 rfl (lv_at hl 1 rfl) ?_
      refine lv_bipush (v := 16) hx hb dJ12_numberOfTrailingZeros_30 (by decide) ?_
      refine lv_iushr (v := (((((a0 ^^^ (-1)) &&& (a0 - 1)) : Int32).toUInt32 >>> ((16 : Int32).toUInt32 &&& Int32.toUInt32 31)).toInt32)) hx hb dJ12_numberOfTrailingZeros_32 rfl ?_
      refine lv_istore_n (lv' := [(0, .int (((((a0 ^^^ (-1)) &&& (a0 - 1)) : Int32).toUInt32 >>> ((16 : Int32).toUInt32 &&& Int32.toUInt32 31)).toInt32)), (1, .int (1 + 16))]) hx hb dJ12_numberOfTrailingZeros_33 rfl hl (by decide) rfl (fun ls hl => ?_)
      exact Ek34_2 _ _ _ _ _ hs hI hl
  · replace hs := ifn c10 hs
    refine lv_iload_n hx hb dJ12_numberOfTrailingZeros_12 rfl (lv_at hl 0 rfl) ?_
    refine lv_bipush (v := 32) hx hb dJ12_numberOfTrailingZeros_13 (by decide) ?_
    refine lv_iand hx hb dJ12_numberOfTrailingZeros_15 ?_
    exact x_reti X hK hI hs (Nat.le_of_ble_eq_true rfl) (Nat.le_of_ble_eq_true rfl) dJ12_numberOfTrailingZeros_16
def x_X0_heats_l56 (a0 : Nat) (a1 : Int32) (ad7 : Nat) (k78_13 : Int32 → XH → Prop) : Nat → Int32 → XH → Prop
  | 0, _, _ => False
  | n56_20 + 1, x19, C20 => x_J12_bitCount x19 C20 (fun r23 C22 => (if r23 ≤ 1 then k78_13 x19 C22 else (xcl C22 a0 = some 0 ∧ x_X0_heatsOf a0 x19 a1 ad7 C22 (fun r25 C24 => x_X0_heats_l56 a0 a1 ad7 k78_13 n56_20 r25 C24))))
theorem x_X0_heats_l56_s (a0 : Nat) (a1 : Int32) (ad7 : Nat) (k78_13 : Int32 → XH → Prop) (n56_20 : Nat) (x19 : Int32) (C20 : XH) : x_X0_heats_l56 a0 a1 ad7 k78_13 (n56_20 + 1) x19 C20 = (x_J12_bitCount x19 C20 (fun r23 C22 => (if r23 ≤ 1 then k78_13 x19 C22 else (xcl C22 a0 = some 0 ∧ x_X0_heatsOf a0 x19 a1 ad7 C22 (fun r25 C24 => x_X0_heats_l56 a0 a1 ad7 k78_13 n56_20 r25 C24))))) := rfl
def x_X0_heats_l56b (a0 : Nat) (a1 : Int32) (ad43 : Nat) (k78_49 : Int32 → XH → Prop) : Nat → Int32 → XH → Prop
  | 0, _, _ => False
  | n56_56 + 1, x55, C56 => x_J12_bitCount x55 C56 (fun r59 C58 => (if r59 ≤ 1 then k78_49 x55 C58 else (xcl C58 a0 = some 0 ∧ x_X0_heatsOf a0 x55 a1 ad43 C58 (fun r61 C60 => x_X0_heats_l56b a0 a1 ad43 k78_49 n56_56 r61 C60))))
theorem x_X0_heats_l56b_s (a0 : Nat) (a1 : Int32) (ad43 : Nat) (k78_49 : Int32 → XH → Prop) (n56_56 : Nat) (x55 : Int32) (C56 : XH) : x_X0_heats_l56b a0 a1 ad43 k78_49 (n56_56 + 1) x55 C56 = (x_J12_bitCount x55 C56 (fun r59 C58 => (if r59 ≤ 1 then k78_49 x55 C58 else (xcl C58 a0 = some 0 ∧ x_X0_heatsOf a0 x55 a1 ad43 C58 (fun r61 C60 => x_X0_heats_l56b a0 a1 ad43 k78_49 n56_56 r61 C60))))) := rfl
def x_X0_heats (a0 : Nat) (a1 : Int32) (a2 : Int32) (C : XH) (K : Int32 → XH → Prop) : Prop := x_X0_in ((a2 : Int32).toInt64) 0 1 C (fun r2 C1 => jn (x_X0_need 0 (-5) C1 (fun C3 => x_X0_in ((a1 : Int32).toInt64) 2 4 C3 (fun r5 C4 => x_X0_need r5 (-6) C4 (fun C6 => xnew C6 (.inl (0, (1, .inl (fun _ => 0)))) (fun ad7 C8 => (xcl C8 a0 = some 0 ∧ x_X0_all a0 C8 (fun r10 C9 => jn (fun (x12 : Int32) (C13 : XH) => (if a2 = 0 then x_J12_numberOfTrailingZeros x12 C13 (fun r17 C16 => K r17 C16) else obd (xai C13 0 ad7 0) (fun v15 => K v15 C13))) (fun k78_13 => x_X0_heats_l56 a0 a1 ad7 k78_13 NF r10 C9))))) (fun ad28 C29 => (xcl C29 a0 = some 0 ∧ x_X0_refused a0 ad28 C29 (fun r31 C30 => K r31 C30))))) (fun ad33 C34 => (xcl C34 a0 = some 0 ∧ x_X0_refused a0 ad33 C34 (fun r36 C35 => K r36 C35)))) (fun k24_2 => jn (fun (v38 : Int32) => x_X0_need v38 (-5) C1 (fun C39 => x_X0_in ((a1 : Int32).toInt64) 2 4 C39 (fun r41 C40 => x_X0_need r41 (-6) C40 (fun C42 => xnew C42 (.inl (0, (1, .inl (fun _ => 0)))) (fun ad43 C44 => (xcl C44 a0 = some 0 ∧ x_X0_all a0 C44 (fun r46 C45 => jn (fun (x48 : Int32) (C49 : XH) => (if a2 = 0 then x_J12_numberOfTrailingZeros x48 C49 (fun r53 C52 => K r53 C52) else obd (xai C49 0 ad43 0) (fun v51 => K v51 C49))) (fun k78_49 => x_X0_heats_l56b a0 a1 ad43 k78_49 NF r46 C45))))) (fun ad64 C65 => (xcl C65 a0 = some 0 ∧ x_X0_refused a0 ad64 C65 (fun r67 C66 => K r67 C66))))) (fun ad69 C70 => (xcl C70 a0 = some 0 ∧ x_X0_refused a0 ad69 C70 (fun r72 C71 => K r72 C71)))) (fun k25_38 => (if r2 = 0 then k24_2 else obd (xgr C1 (xis 0) a0 7) (fun ad74 => obd (xgi C1 (xis 4) ad74 0) (fun v75 => (if v75 ≤ 0 then k24_2 else k25_38 1)))))))
theorem iX0_heats : xInfW yX0_heats cX0_heats 5 (some .int) [(0, 93, 94, 21)] 2 := ⟨q1300, by decide +kernel⟩
set_option maxHeartbeats 4000000 in
theorem xet_X0_heats (l : Launch) (hl0 : l.stackTraces = false) (a0 : Nat) (a1 : Int32) (a2 : Int32) (C : XH) (K : Int32 → XH → Prop) (hs : x_X0_heats a0 a1 a2 C K) : xMetX l yX0_heats (wsW_ yX0_heats cX0_heats 5 (some .int) [(0, 93, 94, 21)]) 11 255 3 15 C [.ref a0, .int a1, .int a2] (fun D dT A => xQi D dT K A) xE0 := by
  intro D dT adK adV sz
  refine xEnterW (own := RX0) (Qc := xQi D dT K) (XC := xXC D dT xE0) (by decide) rfl (by rfl) ?_
  intro p e s m args below meth c A ls X hnm hK hA hG hT hI hl
  have hx := X.1
  have hb := X.2.1
  have hts := X.2.2.2.2.1
  have hown := X.2.2.2.2.2.1
  have hl : lv_has ls 5 [(0, .ref a0), (1, .int a1), (2, .int a2)] := hl
  unfold x_X0_heats at hs
  refine lv_iload_n hx hb dX0_heats_0 rfl (lv_at hl 2 rfl) ?_
  refine lv_i2l (v := ((a2 : Int32).toInt64)) hx hb dX0_heats_1 rfl ?_
  refine lv_lconst (v := 0) hx hb dX0_heats_2 (by decide) ?_
  refine lv_lconst (v := 1) hx hb dX0_heats_3 (by decide) ?_
  refine x_goz hA hI (x_runS (As := [.long ((a2 : Int32).toInt64), .long 0, .long 1]) (rest := []) X hK hA hG hI (xet_X0_in l ((a2 : Int32).toInt64) 0 1 _ _ hs) iX0_in q473 q474 q94 ⟨(Nat.le_of_ble_eq_true rfl), (Nat.le_of_ble_eq_true rfl)⟩ rfl hl.1 rfl (Nat.le_of_ble_eq_true rfl) dX0_heats_4 ⟨(Nat.le_of_ble_eq_true rfl), (Nat.le_of_ble_eq_true rfl)⟩) (fun r2 C1 H locs br2 hs9 hI => ?_)
  replace hs := hs9
  obtain ⟨k24_2, hk24_2, hs⟩ := jn_ex hs
  have Ek24_2 : ∀ (H : Heap) (locs : List Loc) (ls : Array Slot), k24_2 → xI D dT A s.heap C1 H locs → lv_has ls 5 [(0, .ref a0), (1, .int a1), (2, .int a2)] → W p l e (xRm 11 255 3 15) s m args below meth c H locs 0 0 (vx_MQ below (xQi D dT K A) (xXC D dT xE0 A) args s 3 15 A) (F0 m 24 ls []) := by
    intro H locs ls hs hI hl
    rw [hk24_2] at hs
    refine lv_iconst (v := 0) hx hb dX0_heats_24 (by decide) ?_
    refine lv_bipush (v := (-5)) hx hb dX0_heats_25 (by decide) ?_
    refine xT_gov hA hI (x_runST (As := [.int 0, .int (-5)]) (rest := []) X hK hA hG hI (xet_X0_need l hl0 0 (-5) _ _ _ hs) iX0_need q469 q470 q94 ⟨(Nat.le_of_ble_eq_true rfl), (Nat.le_of_ble_eq_true rfl)⟩ rfl hl.1 rfl (Nat.le_of_ble_eq_true rfl) dX0_heats_27 ⟨(Nat.le_of_ble_eq_true rfl), (Nat.le_of_ble_eq_true rfl)⟩) (fun En ce ad33 C34 H locs hs9 hI hce hvm hcl => ?_) (fun C3 H locs hs9 hI => ?_)
    · obtain ⟨rfl, hs0⟩ := hs9
      replace hs := hs0
      refine x_catch (k := 0) (a1 := 0) (a2 := 93) (a3 := 94) (a4 := 21) X hG hT rfl (x_cov rfl) rfl (by decide) q363 (by decide) hce hvm hcl ?_
      refine lv_astore_n (lv' := [(3, .ref ad33), (0, .ref a0), (1, .int a1), (2, .int a2)]) hx hb dX0_heats_94 rfl hl (by decide) rfl (fun ls hl => ?_)
      refine lv_aload_n hx hb dX0_heats_95 rfl (lv_at hl 1 rfl) ?_
      refine lv_aload_n hx hb dX0_heats_96 rfl (lv_at hl 0 rfl) ?_
      obtain ⟨h36, hs⟩ := hs
      obtain ⟨fh36, h36⟩ := xcl_spec h36
      refine x_goi hA hI (x_runV (As := [.ref ad33]) (rest := []) X hK hA hG hI h36 (q := (RX0, TX0, 10)) rfl rfl (xet_X0_refused l a0 ad33 _ _ hs) iX0_refused q538 q540 qs2 q94 ⟨(Nat.le_of_ble_eq_true rfl), (Nat.le_of_ble_eq_true rfl)⟩ rfl hl.1 rfl (Nat.le_of_ble_eq_true rfl) dX0_heats_97 ⟨(Nat.le_of_ble_eq_true rfl), (Nat.le_of_ble_eq_true rfl)⟩) (fun r36 C35 H locs hs9 hI => ?_)
      replace hs := hs9
      exact vx_ret (x_reti X hK hI hs (Nat.le_of_ble_eq_true rfl) (Nat.le_of_ble_eq_true rfl) dX0_heats_100)
    · replace hs := hs9
      refine lv_iload_n hx hb dX0_heats_30 rfl (lv_at hl 1 rfl) ?_
      refine lv_i2l (v := ((a1 : Int32).toInt64)) hx hb dX0_heats_31 rfl ?_
      refine lv_ldc2 hx hb hown (hts _ q1252) dX0_heats_32 ?_
      refine lv_ldc2 hx hb hown (hts _ q1134) dX0_heats_35 ?_
      refine x_goz hA hI (x_runS (As := [.long ((a1 : Int32).toInt64), .long 2, .long 4]) (rest := []) X hK hA hG hI (xet_X0_in l ((a1 : Int32).toInt64) 2 4 _ _ hs) iX0_in q473 q474 q94 ⟨(Nat.le_of_ble_eq_true rfl), (Nat.le_of_ble_eq_true rfl)⟩ rfl hl.1 rfl (Nat.le_of_ble_eq_true rfl) dX0_heats_38 ⟨(Nat.le_of_ble_eq_true rfl), (Nat.le_of_ble_eq_true rfl)⟩) (fun r5 C4 H locs br5 hs9 hI => ?_)
      replace hs := hs9
      refine lv_bipush (v := (-6)) hx hb dX0_heats_41 (by decide) ?_
      refine xT_gov hA hI (x_runST (As := [.int r5, .int (-6)]) (rest := []) X hK hA hG hI (xet_X0_need l hl0 r5 (-6) _ _ _ hs) iX0_need q469 q470 q94 ⟨(Nat.le_of_ble_eq_true rfl), (Nat.le_of_ble_eq_true rfl)⟩ rfl hl.1 rfl (Nat.le_of_ble_eq_true rfl) dX0_heats_43 ⟨(Nat.le_of_ble_eq_true rfl), (Nat.le_of_ble_eq_true rfl)⟩) (fun En ce ad28 C29 H locs hs9 hI hce hvm hcl => ?_) (fun C6 H locs hs9 hI => ?_)
      · obtain ⟨rfl, hs0⟩ := hs9
        replace hs := hs0
        refine x_catch (k := 0) (a1 := 0) (a2 := 93) (a3 := 94) (a4 := 21) X hG hT rfl (x_cov rfl) rfl (by decide) q363 (by decide) hce hvm hcl ?_
        refine lv_astore_n (lv' := [(3, .ref ad28), (0, .ref a0), (1, .int a1), (2, .int a2)]) hx hb dX0_heats_94 rfl hl (by decide) rfl (fun ls hl => ?_)
        refine lv_aload_n hx hb dX0_heats_95 rfl (lv_at hl 1 rfl) ?_
        refine lv_aload_n hx hb dX0_heats_96 rfl (lv_at hl 0 rfl) ?_
        obtain ⟨h31, hs⟩ := hs
        obtain ⟨fh31, h31⟩ := xcl_spec h31
        refine x_goi hA hI (x_runV (As := [.ref ad28]) (rest := []) X hK hA hG hI h31 (q := (RX0, TX0, 10)) rfl rfl (xet_X0_refused l a0 ad28 _ _ hs) iX0_refused q538 q540 qs2 q94 ⟨(Nat.le_of_ble_eq_true rfl), (Nat.le_of_ble_eq_true rfl)⟩ rfl hl.1 rfl (Nat.le_of_ble_eq_true rfl) dX0_heats_97 ⟨(Nat.le_of_ble_eq_true rfl), (Nat.le_of_ble_eq_true rfl)⟩) (fun r31 C30 H locs hs9 hI => ?_)
        replace hs := hs9
        exact vx_ret (x_reti X hK hI hs (Nat.le_of_ble_eq_true rfl) (Nat.le_of_ble_eq_true rfl) dX0_heats_100)
      · replace hs := hs9
        refine lv_iconst (v := 1) hx hb dX0_heats_46 (by decide) ?_
        refine x_newa (n := 1) (B := 1) (x := (1, .inl (fun _ => 0))) X hK hI hA 0 rfl rfl (fun _ h => by cases h) q155 (fun _ => rfl) (by decide) (by decide) rfl (Nat.le_of_ble_eq_true rfl) (Nat.le_of_ble_eq_true rfl) hs dX0_heats_47 (fun ad7 C8 H hs9 hI => ?_)
        replace hs := hs9
        refine lv_astore_n (lv' := [(3, .ref ad7), (0, .ref a0), (1, .int a1), (2, .int a2)]) hx hb dX0_heats_49 rfl hl (by decide) rfl (fun ls hl => ?_)
        refine lv_aload_n hx hb dX0_heats_50 rfl (lv_at hl 1 rfl) ?_
        obtain ⟨h10, hs⟩ := hs
        obtain ⟨fh10, h10⟩ := xcl_spec h10
        refine x_goi hA hI (x_runV (As := []) (rest := []) X hK hA hG hI h10 (q := (RX0, TX0, 10)) rfl rfl (xet_X0_all l a0 _ _ hs) iX0_all q1214 q1216 qs25 q94 ⟨(Nat.le_of_ble_eq_true rfl), (Nat.le_of_ble_eq_true rfl)⟩ rfl hl.1 rfl (Nat.le_of_ble_eq_true rfl) dX0_heats_51 ⟨(Nat.le_of_ble_eq_true rfl), (Nat.le_of_ble_eq_true rfl)⟩) (fun r10 C9 H locs hs9 hI => ?_)
        replace hs := hs9
        refine lv_istore (lv' := [(4, .int r10), (3, .ref ad7), (0, .ref a0), (1, .int a1), (2, .int a2)]) hx hb dX0_heats_54 hl (by decide) rfl (fun ls hl => ?_)
        obtain ⟨k78_13, hk78_13, hs⟩ := jn_ex hs
        have Ek78_13 : ∀ (x12 : Int32) (C13 : XH) (H : Heap) (locs : List Loc) (ls : Array Slot), k78_13 x12 C13 → xI D dT A s.heap C13 H locs → lv_has ls 5 [(0, .ref a0), (2, .int a2), (3, .ref ad7), (4, .int x12)] → W p l e (xRm 11 255 3 15) s m args below meth c H locs 3 15 (vx_MQ below (xQi D dT K A) (xXC D dT xE0 A) args s 3 15 A) (F0 m 78 ls []) := by
          intro x12 C13 H locs ls hs hI hl
          rw [hk78_13] at hs
          refine lv_iload_n hx hb dX0_heats_78 rfl (lv_at hl 1 rfl) ?_
          refine lv_if_ne (tgt := 90) hx hb dX0_heats_79 (by decide) (fun c17 => ?_) (fun c17 => ?_)
          · replace hs := ifn c17 hs
            refine lv_aload_n hx hb dX0_heats_90 rfl (lv_at hl 2 rfl) ?_
            refine lv_iconst (v := 0) hx hb dX0_heats_91 (by decide) ?_
            obtain ⟨v15, ev15, hs⟩ := hs
            refine x_iald X hK hI ev15 dX0_heats_92 ?_
            exact vx_ret (x_reti X hK hI hs (Nat.le_of_ble_eq_true rfl) (Nat.le_of_ble_eq_true rfl) dX0_heats_93)
          · replace hs := ifp c17 hs
            refine lv_iload hx hb dX0_heats_82 (lv_at hl 3 rfl) ?_
            refine x_goi hA hI (x_runS (As := [.int x12]) (rest := []) X hK hA hG hI (xet_J12_numberOfTrailingZeros l x12 _ _ hs) iJ12_numberOfTrailingZeros q1311 q1312 q129 ⟨(Nat.le_of_ble_eq_true rfl), (Nat.le_of_ble_eq_true rfl)⟩ rfl hl.1 rfl (Nat.le_of_ble_eq_true rfl) dX0_heats_84 ⟨(Nat.le_of_ble_eq_true rfl), (Nat.le_of_ble_eq_true rfl)⟩) (fun r17 C16 H locs hs9 hI => ?_)
            replace hs := hs9
            refine lv_goto (tgt := 93) hx hb dX0_heats_87 (by decide) ?_
            exact vx_ret (x_reti X hK hI hs (Nat.le_of_ble_eq_true rfl) (Nat.le_of_ble_eq_true rfl) dX0_heats_93)
        have Lx_X0_heats_l56 : ∀ (n56_20 : Nat) (x19 : Int32) (C20 : XH) (H : Heap) (locs : List Loc) (ls : Array Slot), x_X0_heats_l56 a0 a1 ad7 k78_13 n56_20 x19 C20 → xI D dT A s.heap C20 H locs → lv_has ls 5 [(0, .ref a0), (1, .int a1), (2, .int a2), (3, .ref ad7), (4, .int x19)] → W p l e (xRm 11 255 3 15) s m args below meth c H locs 3 15 (vx_MQ below (xQi D dT K A) (xXC D dT xE0 A) args s 3 15 A) (F0 m 56 ls []) := by
          intro n56_20
          induction n56_20 with
          | zero =>
            intro x19 C20 H locs ls hs
            exact False.elim hs
          | succ n56_20 ihx_X0_heats_l56 =>
            intro x19 C20 H locs ls hs hI hl
            rw [x_X0_heats_l56_s] at hs
            refine lv_iload hx hb dX0_heats_56 (lv_at hl 4 rfl) ?_
            refine x_goi hA hI (x_runS (As := [.int x19]) (rest := []) X hK hA hG hI (xet_J12_bitCount l x19 _ _ hs) iJ12_bitCount q1301 q1302 q129 ⟨(Nat.le_of_ble_eq_true rfl), (Nat.le_of_ble_eq_true rfl)⟩ rfl hl.1 rfl (Nat.le_of_ble_eq_true rfl) dX0_heats_58 ⟨(Nat.le_of_ble_eq_true rfl), (Nat.le_of_ble_eq_true rfl)⟩) (fun r23 C22 H locs hs9 hI => ?_)
            replace hs := hs9
            refine lv_iconst (v := 1) hx hb dX0_heats_61 (by decide) ?_
            refine lv_icmp_le (tgt := 78) hx hb dX0_heats_62 (by decide) (fun c26 => ?_) (fun c26 => ?_)
            · replace hs := ifp c26 hs
              exact Ek78_13 _ _ _ _ _ hs hI (lv_sub hl [0, 2, 3, 4] rfl)
            · replace hs := ifn c26 hs
              refine lv_aload_n hx hb dX0_heats_65 rfl (lv_at hl 0 rfl) ?_
              refine lv_iload hx hb dX0_heats_66 (lv_at hl 4 rfl) ?_
              refine lv_iload_n hx hb dX0_heats_68 rfl (lv_at hl 1 rfl) ?_
              refine lv_aload_n hx hb dX0_heats_69 rfl (lv_at hl 3 rfl) ?_
              obtain ⟨h25, hs⟩ := hs
              obtain ⟨fh25, h25⟩ := xcl_spec h25
              refine x_goi hA hI (x_runV (As := [.int x19, .int a1, .ref ad7]) (rest := []) X hK hA hG hI h25 (q := (RX0, TX0, 10)) rfl rfl (xet_X0_heatsOf l a0 x19 a1 ad7 _ _ hs) iX0_heatsOf q1307 q1309 qs35 q94 ⟨(Nat.le_of_ble_eq_true rfl), (Nat.le_of_ble_eq_true rfl)⟩ rfl hl.1 rfl (Nat.le_of_ble_eq_true rfl) dX0_heats_70 ⟨(Nat.le_of_ble_eq_true rfl), (Nat.le_of_ble_eq_true rfl)⟩) (fun r25 C24 H locs hs9 hI => ?_)
              replace hs := hs9
              refine lv_istore (lv' := [(4, .int r25), (0, .ref a0), (1, .int a1), (2, .int a2), (3, .ref ad7)]) hx hb dX0_heats_73 hl (by decide) rfl (fun ls hl => ?_)
              refine lv_goto (tgt := 56) hx hb dX0_heats_75 (by decide) ?_
              exact ihx_X0_heats_l56 _ _ _ _ _ hs hI (lv_sub hl [1, 2, 3, 4, 0] rfl)
        exact Lx_X0_heats_l56 NF _ _ _ _ _ hs hI (lv_sub hl [2, 3, 4, 1, 0] rfl)
  obtain ⟨k25_38, hk25_38, hs⟩ := jn_ex hs
  have Ek25_38 : ∀ (v38 : Int32) (H : Heap) (locs : List Loc) (ls : Array Slot), k25_38 v38 → xI D dT A s.heap C1 H locs → lv_has ls 5 [(0, .ref a0), (1, .int a1), (2, .int a2)] → W p l e (xRm 11 255 3 15) s m args below meth c H locs 0 0 (vx_MQ below (xQi D dT K A) (xXC D dT xE0 A) args s 3 15 A) (F0 m 25 ls [.int v38]) := by
    intro v38 H locs ls hs hI hl
    rw [hk25_38] at hs
    refine lv_bipush (v := (-5)) hx hb dX0_heats_25 (by decide) ?_
    refine xT_gov hA hI (x_runST (As := [.int v38, .int (-5)]) (rest := []) X hK hA hG hI (xet_X0_need l hl0 v38 (-5) _ _ _ hs) iX0_need q469 q470 q94 ⟨(Nat.le_of_ble_eq_true rfl), (Nat.le_of_ble_eq_true rfl)⟩ rfl hl.1 rfl (Nat.le_of_ble_eq_true rfl) dX0_heats_27 ⟨(Nat.le_of_ble_eq_true rfl), (Nat.le_of_ble_eq_true rfl)⟩) (fun En ce ad69 C70 H locs hs9 hI hce hvm hcl => ?_) (fun C39 H locs hs9 hI => ?_)
    · obtain ⟨rfl, hs0⟩ := hs9
      replace hs := hs0
      refine x_catch (k := 0) (a1 := 0) (a2 := 93) (a3 := 94) (a4 := 21) X hG hT rfl (x_cov rfl) rfl (by decide) q363 (by decide) hce hvm hcl ?_
      refine lv_astore_n (lv' := [(3, .ref ad69), (0, .ref a0), (1, .int a1), (2, .int a2)]) hx hb dX0_heats_94 rfl hl (by decide) rfl (fun ls hl => ?_)
      refine lv_aload_n hx hb dX0_heats_95 rfl (lv_at hl 1 rfl) ?_
      refine lv_aload_n hx hb dX0_heats_96 rfl (lv_at hl 0 rfl) ?_
      obtain ⟨h72, hs⟩ := hs
      obtain ⟨fh72, h72⟩ := xcl_spec h72
      refine x_goi hA hI (x_runV (As := [.ref ad69]) (rest := []) X hK hA hG hI h72 (q := (RX0, TX0, 10)) rfl rfl (xet_X0_refused l a0 ad69 _ _ hs) iX0_refused q538 q540 qs2 q94 ⟨(Nat.le_of_ble_eq_true rfl), (Nat.le_of_ble_eq_true rfl)⟩ rfl hl.1 rfl (Nat.le_of_ble_eq_true rfl) dX0_heats_97 ⟨(Nat.le_of_ble_eq_true rfl), (Nat.le_of_ble_eq_true rfl)⟩) (fun r72 C71 H locs hs9 hI => ?_)
      replace hs := hs9
      exact vx_ret (x_reti X hK hI hs (Nat.le_of_ble_eq_true rfl) (Nat.le_of_ble_eq_true rfl) dX0_heats_100)
    · replace hs := hs9
      refine lv_iload_n hx hb dX0_heats_30 rfl (lv_at hl 1 rfl) ?_
      refine lv_i2l (v := ((a1 : Int32).toInt64)) hx hb dX0_heats_31 rfl ?_
      refine lv_ldc2 hx hb hown (hts _ q1252) dX0_heats_32 ?_
      refine lv_ldc2 hx hb hown (hts _ q1134) dX0_heats_35 ?_
      refine x_goz hA hI (x_runS (As := [.long ((a1 : Int32).toInt64), .long 2, .long 4]) (rest := []) X hK hA hG hI (xet_X0_in l ((a1 : Int32).toInt64) 2 4 _ _ hs) iX0_in q473 q474 q94 ⟨(Nat.le_of_ble_eq_true rfl), (Nat.le_of_ble_eq_true rfl)⟩ rfl hl.1 rfl (Nat.le_of_ble_eq_true rfl) dX0_heats_38 ⟨(Nat.le_of_ble_eq_true rfl), (Nat.le_of_ble_eq_true rfl)⟩) (fun r41 C40 H locs br41 hs9 hI => ?_)
      replace hs := hs9
      refine lv_bipush (v := (-6)) hx hb dX0_heats_41 (by decide) ?_
      refine xT_gov hA hI (x_runST (As := [.int r41, .int (-6)]) (rest := []) X hK hA hG hI (xet_X0_need l hl0 r41 (-6) _ _ _ hs) iX0_need q469 q470 q94 ⟨(Nat.le_of_ble_eq_true rfl), (Nat.le_of_ble_eq_true rfl)⟩ rfl hl.1 rfl (Nat.le_of_ble_eq_true rfl) dX0_heats_43 ⟨(Nat.le_of_ble_eq_true rfl), (Nat.le_of_ble_eq_true rfl)⟩) (fun En ce ad64 C65 H locs hs9 hI hce hvm hcl => ?_) (fun C42 H locs hs9 hI => ?_)
      · obtain ⟨rfl, hs0⟩ := hs9
        replace hs := hs0
        refine x_catch (k := 0) (a1 := 0) (a2 := 93) (a3 := 94) (a4 := 21) X hG hT rfl (x_cov rfl) rfl (by decide) q363 (by decide) hce hvm hcl ?_
        refine lv_astore_n (lv' := [(3, .ref ad64), (0, .ref a0), (1, .int a1), (2, .int a2)]) hx hb dX0_heats_94 rfl hl (by decide) rfl (fun ls hl => ?_)
        refine lv_aload_n hx hb dX0_heats_95 rfl (lv_at hl 1 rfl) ?_
        refine lv_aload_n hx hb dX0_heats_96 rfl (lv_at hl 0 rfl) ?_
        obtain ⟨h67, hs⟩ := hs
        obtain ⟨fh67, h67⟩ := xcl_spec h67
        refine x_goi hA hI (x_runV (As := [.ref ad64]) (rest := []) X hK hA hG hI h67 (q := (RX0, TX0, 10)) rfl rfl (xet_X0_refused l a0 ad64 _ _ hs) iX0_refused q538 q540 qs2 q94 ⟨(Nat.le_of_ble_eq_true rfl), (Nat.le_of_ble_eq_true rfl)⟩ rfl hl.1 rfl (Nat.le_of_ble_eq_true rfl) dX0_heats_97 ⟨(Nat.le_of_ble_eq_true rfl), (Nat.le_of_ble_eq_true rfl)⟩) (fun r67 C66 H locs hs9 hI => ?_)
        replace hs := hs9
        exact vx_ret (x_reti X hK hI hs (Nat.le_of_ble_eq_true rfl) (Nat.le_of_ble_eq_true rfl) dX0_heats_100)
      · replace hs := hs9
        refine lv_iconst (v := 1) hx hb dX0_heats_46 (by decide) ?_
        refine x_newa (n := 1) (B := 1) (x := (1, .inl (fun _ => 0))) X hK hI hA 0 rfl rfl (fun _ h => by cases h) q155 (fun _ => rfl) (by decide) (by decide) rfl (Nat.le_of_ble_eq_true rfl) (Nat.le_of_ble_eq_true rfl) hs dX0_heats_47 (fun ad43 C44 H hs9 hI => ?_)
        replace hs := hs9
        refine lv_astore_n (lv' := [(3, .ref ad43), (0, .ref a0), (1, .int a1), (2, .int a2)]) hx hb dX0_heats_49 rfl hl (by decide) rfl (fun ls hl => ?_)
        refine lv_aload_n hx hb dX0_heats_50 rfl (lv_at hl 1 rfl) ?_
        obtain ⟨h46, hs⟩ := hs
        obtain ⟨fh46, h46⟩ := xcl_spec h46
        refine x_goi hA hI (x_runV (As := []) (rest := []) X hK hA hG hI h46 (q := (RX0, TX0, 10)) rfl rfl (xet_X0_all l a0 _ _ hs) iX0_all q1214 q1216 qs25 q94 ⟨(Nat.le_of_ble_eq_true rfl), (Nat.le_of_ble_eq_true rfl)⟩ rfl hl.1 rfl (Nat.le_of_ble_eq_true rfl) dX0_heats_51 ⟨(Nat.le_of_ble_eq_true rfl), (Nat.le_of_ble_eq_true rfl)⟩) (fun r46 C45 H locs hs9 hI => ?_)
        replace hs := hs9
        refine lv_istore (lv' := [(4, .int r46), (3, .ref ad43), (0, .ref a0), (1, .int a1), (2, .int a2)]) hx hb dX0_heats_54 hl (by decide) rfl (fun ls hl => ?_)
        obtain ⟨k78_49, hk78_49, hs⟩ := jn_ex hs
        have Ek78_49 : ∀ (x48 : Int32) (C49 : XH) (H : Heap) (locs : List Loc) (ls : Array Slot), k78_49 x48 C49 → xI D dT A s.heap C49 H locs → lv_has ls 5 [(0, .ref a0), (2, .int a2), (3, .ref ad43), (4, .int x48)] → W p l e (xRm 11 255 3 15) s m args below meth c H locs 3 15 (vx_MQ below (xQi D dT K A) (xXC D dT xE0 A) args s 3 15 A) (F0 m 78 ls []) := by
          intro x48 C49 H locs ls hs hI hl
          rw [hk78_49] at hs
          refine lv_iload_n hx hb dX0_heats_78 rfl (lv_at hl 1 rfl) ?_
          refine lv_if_ne (tgt := 90) hx hb dX0_heats_79 (by decide) (fun c53 => ?_) (fun c53 => ?_)
          · replace hs := ifn c53 hs
            refine lv_aload_n hx hb dX0_heats_90 rfl (lv_at hl 2 rfl) ?_
            refine lv_iconst (v := 0) hx hb dX0_heats_91 (by decide) ?_
            obtain ⟨v51, ev51, hs⟩ := hs
            refine x_iald X hK hI ev51 dX0_heats_92 ?_
            exact vx_ret (x_reti X hK hI hs (Nat.le_of_ble_eq_true rfl) (Nat.le_of_ble_eq_true rfl) dX0_heats_93)
          · replace hs := ifp c53 hs
            refine lv_iload hx hb dX0_heats_82 (lv_at hl 3 rfl) ?_
            refine x_goi hA hI (x_runS (As := [.int x48]) (rest := []) X hK hA hG hI (xet_J12_numberOfTrailingZeros l x48 _ _ hs) iJ12_numberOfTrailingZeros q1311 q1312 q129 ⟨(Nat.le_of_ble_eq_true rfl), (Nat.le_of_ble_eq_true rfl)⟩ rfl hl.1 rfl (Nat.le_of_ble_eq_true rfl) dX0_heats_84 ⟨(Nat.le_of_ble_eq_true rfl), (Nat.le_of_ble_eq_true rfl)⟩) (fun r53 C52 H locs hs9 hI => ?_)
            replace hs := hs9
            refine lv_goto (tgt := 93) hx hb dX0_heats_87 (by decide) ?_
            exact vx_ret (x_reti X hK hI hs (Nat.le_of_ble_eq_true rfl) (Nat.le_of_ble_eq_true rfl) dX0_heats_93)
        have Lx_X0_heats_l56b : ∀ (n56_56 : Nat) (x55 : Int32) (C56 : XH) (H : Heap) (locs : List Loc) (ls : Array Slot), x_X0_heats_l56b a0 a1 ad43 k78_49 n56_56 x55 C56 → xI D dT A s.heap C56 H locs → lv_has ls 5 [(0, .ref a0), (1, .int a1), (2, .int a2), (3, .ref ad43), (4, .int x55)] → W p l e (xRm 11 255 3 15) s m args below meth c H locs 3 15 (vx_MQ below (xQi D dT K A) (xXC D dT xE0 A) args s 3 15 A) (F0 m 56 ls []) := by
          intro n56_56
          induction n56_56 with
          | zero =>
            intro x55 C56 H locs ls hs
            exact False.elim hs
          | succ n56_56 ihx_X0_heats_l56b =>
            intro x55 C56 H locs ls hs hI hl
            rw [x_X0_heats_l56b_s] at hs
            refine lv_iload hx hb dX0_heats_56 (lv_at hl 4 rfl) ?_
            refine x_goi hA hI (x_runS (As := [.int x55]) (rest := []) X hK hA hG hI (xet_J12_bitCount l x55 _ _ hs) iJ12_bitCount q1301 q1302 q129 ⟨(Nat.le_of_ble_eq_true rfl), (Nat.le_of_ble_eq_true rfl)⟩ rfl hl.1 rfl (Nat.le_of_ble_eq_true rfl) dX0_heats_58 ⟨(Nat.le_of_ble_eq_true rfl), (Nat.le_of_ble_eq_true rfl)⟩) (fun r59 C58 H locs hs9 hI => ?_)
            replace hs := hs9
            refine lv_iconst (v := 1) hx hb dX0_heats_61 (by decide) ?_
            refine lv_icmp_le (tgt := 78) hx hb dX0_heats_62 (by decide) (fun c62 => ?_) (fun c62 => ?_)
            · replace hs := ifp c62 hs
              exact Ek78_49 _ _ _ _ _ hs hI (lv_sub hl [0, 2, 3, 4] rfl)
            · replace hs := ifn c62 hs
              refine lv_aload_n hx hb dX0_heats_65 rfl (lv_at hl 0 rfl) ?_
              refine lv_iload hx hb dX0_heats_66 (lv_at hl 4 rfl) ?_
              refine lv_iload_n hx hb dX0_heats_68 rfl (lv_at hl 1 rfl) ?_
              refine lv_aload_n hx hb dX0_heats_69 rfl (lv_at hl 3 rfl) ?_
              obtain ⟨h61, hs⟩ := hs
              obtain ⟨fh61, h61⟩ := xcl_spec h61
              refine x_goi hA hI (x_runV (As := [.int x55, .int a1, .ref ad43]) (rest := []) X hK hA hG hI h61 (q := (RX0, TX0, 10)) rfl rfl (xet_X0_heatsOf l a0 x55 a1 ad43 _ _ hs) iX0_heatsOf q1307 q1309 qs35 q94 ⟨(Nat.le_of_ble_eq_true rfl), (Nat.le_of_ble_eq_true rfl)⟩ rfl hl.1 rfl (Nat.le_of_ble_eq_true rfl) dX0_heats_70 ⟨(Nat.le_of_ble_eq_true rfl), (Nat.le_of_ble_eq_true rfl)⟩) (fun r61 C60 H locs hs9 hI => ?_)
              replace hs := hs9
              refine lv_istore (lv' := [(4, .int r61), (0, .ref a0), (1, .int a1), (2, .int a2), (3, .ref ad43)]) hx hb dX0_heats_73 hl (by decide) rfl (fun ls hl => ?_)
              refine lv_goto (tgt := 56) hx hb dX0_heats_75 (by decide) ?_
              exact ihx_X0_heats_l56b _ _ _ _ _ hs hI (lv_sub hl [1, 2, 3, 4, 0] rfl)
        exact Lx_X0_heats_l56b NF _ _ _ _ _ hs hI (lv_sub hl [2, 3, 4, 1, 0] rfl)
  refine lv_if_eq (tgt := 24) hx hb dX0_heats_7 (by decide) (fun c76 => ?_) (fun c76 => ?_)
  · replace hs := ifp c76 hs
    exact Ek24_2 _ _ _ hs hI hl
  · replace hs := ifn c76 hs
    refine lv_aload_n hx hb dX0_heats_10 rfl (lv_at hl 0 rfl) ?_
    obtain ⟨ad74, ead74, hs⟩ := hs
    refine x_get (v := .ref ad74) X hK hI 0 7 rfl in_X0 rfl q335 rfl (xgr_spec ead74) dX0_heats_11 ?_
    obtain ⟨v75, ev75, hs⟩ := hs
    refine x_get (v := .int v75) X hK hI 4 0 rfl in_X4 rfl q252 rfl (xgi_spec ev75) dX0_heats_14 ?_
    refine lv_if_le (tgt := 24) hx hb dX0_heats_17 (by decide) (fun c75 => ?_) (fun c75 => ?_)
    · replace hs := ifp c75 hs
      exact Ek24_2 _ _ _ hs hI hl
    · replace hs := ifn c75 hs
      refine lv_iconst (v := 1) hx hb dX0_heats_20 (by decide) ?_
      refine lv_goto (tgt := 25) hx hb dX0_heats_21 (by decide) ?_
      exact Ek25_38 _ _ _ _ hs hI hl
