set_option maxRecDepth 100000
def x_X0_timeIn (a0 : Nat) (a1 : Int32) (a2 : Int32) (C : XH) (K : Int32 → XH → Prop) : Prop := obd (xgr C (xis 0) a0 3) (fun ad1 => obd (xgr C (xis 0) a0 7) (fun ad2 => obd (xgr C (xis 0) a0 7) (fun ad3 => obd (xgr C (xis 4) ad3 6) (fun ad4 => obd (xar C 7 ad4 a1) (fun ad5 => (xcl C ad1 = some 2 ∧ x_X2_ofKind ad1 ad2 ad5 a1 a2 C (fun ad7 C6 => (xcl C6 ad7 = some 2 ∧ x_X2_comesIn ad7 C6 (fun r10 C9 => K r10 C9)))))))))
theorem iX0_timeIn : xInf yX0_timeIn cX0_timeIn 3 (some .int) 2 := ⟨q1243, by decide +kernel⟩
set_option maxHeartbeats 4000000 in
theorem xet_X0_timeIn (l : Launch) (a0 : Nat) (a1 : Int32) (a2 : Int32) (C : XH) (K : Int32 → XH → Prop) (hs : x_X0_timeIn a0 a1 a2 C K) : xMeti l yX0_timeIn (ws_ yX0_timeIn cX0_timeIn 3 (some .int)) 7 160 0 0 C [.ref a0, .int a1, .int a2] K := by
  intro D dT adK adV sz
  refine xEnter (own := RX0) (Qc := xQi D dT K) (by decide) rfl (by rfl) ?_
  intro p e s m args below meth c A ls X hnm hK hA hG hI hl
  have hx := X.1
  have hb := X.2.1
  have hts := X.2.2.2.2.1
  have hown := X.2.2.2.2.2.1
  have hl : lv_has ls 3 [(0, .ref a0), (1, .int a1), (2, .int a2)] := hl
  unfold x_X0_timeIn at hs
  refine lv_aload_n hx hb dX0_timeIn_0 rfl (lv_at hl 0 rfl) ?_
  obtain ⟨ad1, ead1, hs⟩ := hs
  refine x_get (v := .ref ad1) X hK hI 0 3 rfl in_X0 rfl q331 rfl (xgr_spec ead1) dX0_timeIn_1 ?_
  refine lv_aload_n hx hb dX0_timeIn_4 rfl (lv_at hl 0 rfl) ?_
  obtain ⟨ad2, ead2, hs⟩ := hs
  refine x_get (v := .ref ad2) X hK hI 0 7 rfl in_X0 rfl q335 rfl (xgr_spec ead2) dX0_timeIn_5 ?_
  refine lv_aload_n hx hb dX0_timeIn_8 rfl (lv_at hl 0 rfl) ?_
  obtain ⟨ad3, ead3, hs⟩ := hs
  refine x_get (v := .ref ad3) X hK hI 0 7 rfl in_X0 rfl q335 rfl (xgr_spec ead3) dX0_timeIn_9 ?_
  obtain ⟨ad4, ead4, hs⟩ := hs
  refine x_get (v := .ref ad4) X hK hI 4 6 rfl in_X4 rfl q272 rfl (xgr_spec ead4) dX0_timeIn_12 ?_
  refine lv_iload_n hx hb dX0_timeIn_15 rfl (lv_at hl 1 rfl) ?_
  obtain ⟨ad5, ead5, hs⟩ := hs
  refine x_aald X hK hI 7 rfl rfl ead5 dX0_timeIn_16 ?_
  refine lv_iload_n hx hb dX0_timeIn_17 rfl (lv_at hl 1 rfl) ?_
  refine lv_iload_n hx hb dX0_timeIn_18 rfl (lv_at hl 2 rfl) ?_
  obtain ⟨h7, hs⟩ := hs
  obtain ⟨fh7, h7⟩ := xcl_spec h7
  refine x_gor hA hI (x_runV (As := [.ref ad2, .ref ad5, .int a1, .int a2]) (rest := []) X hK hA hG hI h7 (q := (RX2, TX2, 12)) rfl rfl (xet_X2_ofKind l ad1 ad2 ad5 a1 a2 _ _ hs) iX2_ofKind q1235 q1141 q1142 q96 ⟨(Nat.le_of_ble_eq_true rfl), (Nat.le_of_ble_eq_true rfl)⟩ rfl hl.1 rfl (Nat.le_of_ble_eq_true rfl) dX0_timeIn_19 ⟨(Nat.le_of_ble_eq_true rfl), (Nat.le_of_ble_eq_true rfl)⟩) (fun ad7 C6 H locs hs9 hI => ?_)
  replace hs := hs9
  obtain ⟨h10, hs⟩ := hs
  obtain ⟨fh10, h10⟩ := xcl_spec h10
  refine x_goi hA hI (x_runV (As := []) (rest := []) X hK hA hG hI h10 (q := (RX2, TX2, 12)) rfl rfl (xet_X2_comesIn l ad7 _ _ hs) iX2_comesIn q1197 q1198 q1199 q96 ⟨(Nat.le_of_ble_eq_true rfl), (Nat.le_of_ble_eq_true rfl)⟩ rfl hl.1 rfl (Nat.le_of_ble_eq_true rfl) dX0_timeIn_22 ⟨(Nat.le_of_ble_eq_true rfl), (Nat.le_of_ble_eq_true rfl)⟩) (fun r10 C9 H locs hs9 hI => ?_)
  replace hs := hs9
  exact x_reti X hK hI hs (Nat.le_of_ble_eq_true rfl) (Nat.le_of_ble_eq_true rfl) dX0_timeIn_25
def x_X0_bestSack_l4 (K : Int32 → XH → Prop) (a0 : Nat) (a1 : Int32) : Nat → Int32 → Int32 → XH → Prop
  | 0, _, _, _ => False
  | n4_3 + 1, x1, x2, C3 => obd (xgr C3 (xis 0) a0 7) (fun ad5 => obd (xgi C3 (xis 4) ad5 1) (fun v6 => (if v6 ≤ x2 then K x1 C3 else (xcl C3 a0 = some 0 ∧ x_X0_timeIn a0 a1 x2 C3 (fun r8 C7 => (xcl C7 a0 = some 0 ∧ x_X0_timeIn a0 a1 x1 C7 (fun r11 C10 => jn (fun (v13 : Int32) => x_X0_bestSack_l4 K a0 a1 n4_3 v13 (x2 + 1) C10) (fun k35_13 => (if r11 ≤ r8 then k35_13 x1 else k35_13 x2)))))))))
theorem x_X0_bestSack_l4_s (K : Int32 → XH → Prop) (a0 : Nat) (a1 : Int32) (n4_3 : Nat) (x1 : Int32) (x2 : Int32) (C3 : XH) : x_X0_bestSack_l4 K a0 a1 (n4_3 + 1) x1 x2 C3 = (obd (xgr C3 (xis 0) a0 7) (fun ad5 => obd (xgi C3 (xis 4) ad5 1) (fun v6 => (if v6 ≤ x2 then K x1 C3 else (xcl C3 a0 = some 0 ∧ x_X0_timeIn a0 a1 x2 C3 (fun r8 C7 => (xcl C7 a0 = some 0 ∧ x_X0_timeIn a0 a1 x1 C7 (fun r11 C10 => jn (fun (v13 : Int32) => x_X0_bestSack_l4 K a0 a1 n4_3 v13 (x2 + 1) C10) (fun k35_13 => (if r11 ≤ r8 then k35_13 x1 else k35_13 x2)))))))))) := rfl
def x_X0_bestSack (a0 : Nat) (a1 : Int32) (C : XH) (K : Int32 → XH → Prop) : Prop := x_X0_bestSack_l4 K a0 a1 NF 0 1 C
theorem iX0_bestSack : xInf yX0_bestSack cX0_bestSack 4 (some .int) 1 := ⟨q1239, by decide +kernel⟩
set_option maxHeartbeats 4000000 in
theorem xet_X0_bestSack (l : Launch) (a0 : Nat) (a1 : Int32) (C : XH) (K : Int32 → XH → Prop) (hs : x_X0_bestSack a0 a1 C K) : xMeti l yX0_bestSack (ws_ yX0_bestSack cX0_bestSack 4 (some .int)) 8 182 0 0 C [.ref a0, .int a1] K := by
  intro D dT adK adV sz
  refine xEnter (own := RX0) (Qc := xQi D dT K) (by decide) rfl (by rfl) ?_
  intro p e s m args below meth c A ls X hnm hK hA hG hI hl
  have hx := X.1
  have hb := X.2.1
  have hts := X.2.2.2.2.1
  have hown := X.2.2.2.2.2.1
  have hl : lv_has ls 4 [(0, .ref a0), (1, .int a1)] := hl
  unfold x_X0_bestSack at hs
  refine lv_iconst (v := 0) hx hb dX0_bestSack_0 (by decide) ?_
  refine lv_istore_n (lv' := [(2, .int 0), (0, .ref a0), (1, .int a1)]) hx hb dX0_bestSack_1 rfl hl (by decide) rfl (fun ls hl => ?_)
  refine lv_iconst (v := 1) hx hb dX0_bestSack_2 (by decide) ?_
  refine lv_istore_n (lv' := [(3, .int 1), (2, .int 0), (0, .ref a0), (1, .int a1)]) hx hb dX0_bestSack_3 rfl hl (by decide) rfl (fun ls hl => ?_)
  have Lx_X0_bestSack_l4 : ∀ (n4_3 : Nat) (x1 : Int32) (x2 : Int32) (C3 : XH) (H : Heap) (locs : List Loc) (ls : Array Slot), x_X0_bestSack_l4 K a0 a1 n4_3 x1 x2 C3 → xI D dT A s.heap C3 H locs → lv_has ls 4 [(0, .ref a0), (1, .int a1), (2, .int x1), (3, .int x2)] → W p l e (xRm 8 182 0 0) s m args below meth c H locs 0 0 (MQ below (xQi D dT K A) args s 0 0 A) (F0 m 4 ls []) := by
    intro n4_3
    induction n4_3 with
    | zero =>
      intro x1 x2 C3 H locs ls hs
      exact False.elim hs
    | succ n4_3 ihx_X0_bestSack_l4 =>
      intro x1 x2 C3 H locs ls hs hI hl
      rw [x_X0_bestSack_l4_s] at hs
      refine lv_iload_n hx hb dX0_bestSack_4 rfl (lv_at hl 3 rfl) ?_
      refine lv_aload_n hx hb dX0_bestSack_5 rfl (lv_at hl 0 rfl) ?_
      obtain ⟨ad5, ead5, hs⟩ := hs
      refine x_get (v := .ref ad5) X hK hI 0 7 rfl in_X0 rfl q335 rfl (xgr_spec ead5) dX0_bestSack_6 ?_
      obtain ⟨v6, ev6, hs⟩ := hs
      refine x_get (v := .int v6) X hK hI 4 1 rfl in_X4 rfl q257 rfl (xgi_spec ev6) dX0_bestSack_9 ?_
      refine lv_icmp_ge (tgt := 42) hx hb dX0_bestSack_12 (by decide) (fun c14 => ?_) (fun c14 => ?_)
      · replace hs := ifp c14 hs
        refine lv_iload_n hx hb dX0_bestSack_42 rfl (lv_at hl 2 rfl) ?_
        exact x_reti X hK hI hs (Nat.le_of_ble_eq_true rfl) (Nat.le_of_ble_eq_true rfl) dX0_bestSack_43
      · replace hs := ifn c14 hs
        refine lv_aload_n hx hb dX0_bestSack_15 rfl (lv_at hl 0 rfl) ?_
        refine lv_iload_n hx hb dX0_bestSack_16 rfl (lv_at hl 1 rfl) ?_
        refine lv_iload_n hx hb dX0_bestSack_17 rfl (lv_at hl 3 rfl) ?_
        obtain ⟨h8, hs⟩ := hs
        obtain ⟨fh8, h8⟩ := xcl_spec h8
        refine x_goi hA hI (x_runV (As := [.int a1, .int x2]) (rest := []) X hK hA hG hI h8 (q := (RX0, TX0, 10)) rfl rfl (xet_X0_timeIn l a0 a1 x2 _ _ hs) iX0_timeIn q1240 q1242 qs30 q94 ⟨(Nat.le_of_ble_eq_true rfl), (Nat.le_of_ble_eq_true rfl)⟩ rfl hl.1 rfl (Nat.le_of_ble_eq_true rfl) dX0_bestSack_18 ⟨(Nat.le_of_ble_eq_true rfl), (Nat.le_of_ble_eq_true rfl)⟩) (fun r8 C7 H locs hs9 hI => ?_)
        replace hs := hs9
        refine lv_aload_n hx hb dX0_bestSack_21 rfl (lv_at hl 0 rfl) ?_
        refine lv_iload_n hx hb dX0_bestSack_22 rfl (lv_at hl 1 rfl) ?_
        refine lv_iload_n hx hb dX0_bestSack_23 rfl (lv_at hl 2 rfl) ?_
        obtain ⟨h11, hs⟩ := hs
        obtain ⟨fh11, h11⟩ := xcl_spec h11
        refine x_goi hA hI (x_runV (As := [.int a1, .int x1]) (rest := [.int r8]) X hK hA hG hI h11 (q := (RX0, TX0, 10)) rfl rfl (xet_X0_timeIn l a0 a1 x1 _ _ hs) iX0_timeIn q1240 q1242 qs30 q94 ⟨(Nat.le_of_ble_eq_true rfl), (Nat.le_of_ble_eq_true rfl)⟩ rfl hl.1 rfl (Nat.le_of_ble_eq_true rfl) dX0_bestSack_24 ⟨(Nat.le_of_ble_eq_true rfl), (Nat.le_of_ble_eq_true rfl)⟩) (fun r11 C10 H locs hs9 hI => ?_)
        replace hs := hs9
        obtain ⟨k35_13, hk35_13, hs⟩ := jn_ex hs
        have Ek35_13 : ∀ (v13 : Int32) (H : Heap) (locs : List Loc) (ls : Array Slot), k35_13 v13 → xI D dT A s.heap C10 H locs → lv_has ls 4 [(0, .ref a0), (1, .int a1), (3, .int x2)] → W p l e (xRm 8 182 0 0) s m args below meth c H locs 0 0 (MQ below (xQi D dT K A) args s 0 0 A) (F0 m 35 ls [.int v13]) := by
          intro v13 H locs ls hs hI hl
          rw [hk35_13] at hs
          refine lv_istore_n (lv' := [(2, .int v13), (0, .ref a0), (1, .int a1), (3, .int x2)]) hx hb dX0_bestSack_35 rfl hl (by decide) rfl (fun ls hl => ?_)
          refine lv_iinc (v := (x2 + 1)) (lv' := [(3, .int (x2 + 1)), (2, .int v13), (0, .ref a0), (1, .int a1)]) hx hb dX0_bestSack_36 hl (k := 3) rfl (congrArg (fun z => x2 + z) (show Int32.ofInt (1) = 1 by decide)) (by decide) rfl (fun ls hl => ?_)
          refine lv_goto (tgt := 4) hx hb dX0_bestSack_39 (by decide) ?_
          exact ihx_X0_bestSack_l4 _ _ _ _ _ _ hs hI (lv_sub hl [2, 3, 1, 0] rfl)
        refine lv_icmp_ge (tgt := 34) hx hb dX0_bestSack_27 (by decide) (fun c13 => ?_) (fun c13 => ?_)
        · replace hs := ifp c13 hs
          refine lv_iload_n hx hb dX0_bestSack_34 rfl (lv_at hl 2 rfl) ?_
          exact Ek35_13 _ _ _ _ hs hI (lv_sub hl [0, 1, 3] rfl)
        · replace hs := ifn c13 hs
          refine lv_iload_n hx hb dX0_bestSack_30 rfl (lv_at hl 3 rfl) ?_
          refine lv_goto (tgt := 35) hx hb dX0_bestSack_31 (by decide) ?_
          exact Ek35_13 _ _ _ _ hs hI (lv_sub hl [0, 1, 3] rfl)
  exact Lx_X0_bestSack_l4 NF _ _ _ _ _ _ hs hI (lv_sub hl [2, 3, 1, 0] rfl)
def x_X0_timeRolling (a0 : Nat) (a1 : Int32) (a2 : Int32) (C : XH) (K : Int32 → XH → Prop) : Prop := obd (xgr C (xis 0) a0 6) (fun ad1 => obd (xgr C (xis 0) a0 7) (fun ad2 => (xcl C ad1 = some 4 ∧ x_X4_take ad1 ad2 C (fun ad4 C3 => ((a2 = 0 ∨ a2 = 1) ∧ obd (xpv C3 (xis 4) ad4 3 (.int a2)) (fun C6 => obd (xgr C6 (xis 0) a0 3) (fun ad8 => obd (xgr C6 (xis 0) a0 6) (fun ad9 => (xcl C6 ad8 = some 2 ∧ x_X2_of ad8 ad9 a1 C6 (fun ad11 C10 => (xcl C10 ad11 = some 2 ∧ x_X2_comesIn ad11 C10 (fun r14 C13 => K r14 C13))))))))))))
theorem iX0_timeRolling : xInf yX0_timeRolling cX0_timeRolling 3 (some .int) 2 := ⟨q1247, by decide +kernel⟩
set_option maxHeartbeats 4000000 in
theorem xet_X0_timeRolling (l : Launch) (a0 : Nat) (a1 : Int32) (a2 : Int32) (C : XH) (K : Int32 → XH → Prop) (hs : x_X0_timeRolling a0 a1 a2 C K) : xMeti l yX0_timeRolling (ws_ yX0_timeRolling cX0_timeRolling 3 (some .int)) 8 221 0 0 C [.ref a0, .int a1, .int a2] K := by
  intro D dT adK adV sz
  refine xEnter (own := RX0) (Qc := xQi D dT K) (by decide) rfl (by rfl) ?_
  intro p e s m args below meth c A ls X hnm hK hA hG hI hl
  have hx := X.1
  have hb := X.2.1
  have hts := X.2.2.2.2.1
  have hown := X.2.2.2.2.2.1
  have hl : lv_has ls 3 [(0, .ref a0), (1, .int a1), (2, .int a2)] := hl
  unfold x_X0_timeRolling at hs
  refine lv_aload_n hx hb dX0_timeRolling_0 rfl (lv_at hl 0 rfl) ?_
  obtain ⟨ad1, ead1, hs⟩ := hs
  refine x_get (v := .ref ad1) X hK hI 0 6 rfl in_X0 rfl q334 rfl (xgr_spec ead1) dX0_timeRolling_1 ?_
  refine lv_aload_n hx hb dX0_timeRolling_4 rfl (lv_at hl 0 rfl) ?_
  obtain ⟨ad2, ead2, hs⟩ := hs
  refine x_get (v := .ref ad2) X hK hI 0 7 rfl in_X0 rfl q335 rfl (xgr_spec ead2) dX0_timeRolling_5 ?_
  obtain ⟨h4, hs⟩ := hs
  obtain ⟨fh4, h4⟩ := xcl_spec h4
  refine x_gor hA hI (x_runV (As := [.ref ad2]) (rest := []) X hK hA hG hI h4 (q := (RX4, TX4, 13)) rfl rfl (xet_X4_take l ad1 ad2 _ _ hs) iX4_take q949 q950 q951 q98 ⟨(Nat.le_of_ble_eq_true rfl), (Nat.le_of_ble_eq_true rfl)⟩ rfl hl.1 rfl (Nat.le_of_ble_eq_true rfl) dX0_timeRolling_8 ⟨(Nat.le_of_ble_eq_true rfl), (Nat.le_of_ble_eq_true rfl)⟩) (fun ad4 C3 H locs hs9 hI => ?_)
  replace hs := hs9
  refine lv_iload_n hx hb dX0_timeRolling_11 rfl (lv_at hl 2 rfl) ?_
  obtain ⟨z6, hs⟩ := hs
  obtain ⟨C6, eC6, hs⟩ := hs
  refine x_putB X hK hI 4 3 rfl in_X4 tyX4 tyX4_ok nmX4 rfl q262 rfl rfl rfl z6 eC6 dX0_timeRolling_12 (fun H locs hI => ?_)
  refine lv_aload_n hx hb dX0_timeRolling_15 rfl (lv_at hl 0 rfl) ?_
  obtain ⟨ad8, ead8, hs⟩ := hs
  refine x_get (v := .ref ad8) X hK hI 0 3 rfl in_X0 rfl q331 rfl (xgr_spec ead8) dX0_timeRolling_16 ?_
  refine lv_aload_n hx hb dX0_timeRolling_19 rfl (lv_at hl 0 rfl) ?_
  obtain ⟨ad9, ead9, hs⟩ := hs
  refine x_get (v := .ref ad9) X hK hI 0 6 rfl in_X0 rfl q334 rfl (xgr_spec ead9) dX0_timeRolling_20 ?_
  refine lv_iload_n hx hb dX0_timeRolling_23 rfl (lv_at hl 1 rfl) ?_
  obtain ⟨h11, hs⟩ := hs
  obtain ⟨fh11, h11⟩ := xcl_spec h11
  refine x_gor hA hI (x_runV (As := [.ref ad9, .int a1]) (rest := []) X hK hA hG hI h11 (q := (RX2, TX2, 12)) rfl rfl (xet_X2_of l ad8 ad9 a1 _ _ hs) iX2_of q1136 q1137 q1138 q96 ⟨(Nat.le_of_ble_eq_true rfl), (Nat.le_of_ble_eq_true rfl)⟩ rfl hl.1 rfl (Nat.le_of_ble_eq_true rfl) dX0_timeRolling_24 ⟨(Nat.le_of_ble_eq_true rfl), (Nat.le_of_ble_eq_true rfl)⟩) (fun ad11 C10 H locs hs9 hI => ?_)
  replace hs := hs9
  obtain ⟨h14, hs⟩ := hs
  obtain ⟨fh14, h14⟩ := xcl_spec h14
  refine x_goi hA hI (x_runV (As := []) (rest := []) X hK hA hG hI h14 (q := (RX2, TX2, 12)) rfl rfl (xet_X2_comesIn l ad11 _ _ hs) iX2_comesIn q1197 q1198 q1199 q96 ⟨(Nat.le_of_ble_eq_true rfl), (Nat.le_of_ble_eq_true rfl)⟩ rfl hl.1 rfl (Nat.le_of_ble_eq_true rfl) dX0_timeRolling_27 ⟨(Nat.le_of_ble_eq_true rfl), (Nat.le_of_ble_eq_true rfl)⟩) (fun r14 C13 H locs hs9 hI => ?_)
  replace hs := hs9
  exact x_reti X hK hI hs (Nat.le_of_ble_eq_true rfl) (Nat.le_of_ble_eq_true rfl) dX0_timeRolling_30
def x_X0_best (a0 : Nat) (a1 : Int32) (a2 : Int32) (C : XH) (K : Int32 → XH → Prop) : Prop := (xcl C a0 = some 0 ∧ x_X0_mustChild a0 a1 C (fun C1 => x_X0_in ((a2 : Int32).toInt64) 0 3 C1 (fun r4 C3 => jn (x_X0_need 0 (-5) C3 (fun C5 => (if a2 = 0 then (xcl C5 a0 = some 0 ∧ x_X0_bestKind a0 a1 C5 (fun r8 C7 => K r8 C7)) else if a2 = 1 then (xcl C5 a0 = some 0 ∧ x_X0_timeAs a0 a1 3 C5 (fun r11 C10 => (xcl C10 a0 = some 0 ∧ x_X0_timeAs a0 a1 5 C10 (fun r14 C13 => (if r14 ≤ r11 then K 0 C13 else K 1 C13))))) else if a2 = 2 then (xcl C5 a0 = some 0 ∧ x_X0_bestSack a0 a1 C5 (fun r18 C17 => K r18 C17)) else (xcl C5 a0 = some 0 ∧ x_X0_timeRolling a0 a1 1 C5 (fun r21 C20 => (xcl C20 a0 = some 0 ∧ x_X0_timeRolling a0 a1 0 C20 (fun r24 C23 => (if r24 ≤ r21 then K 0 C23 else K 1 C23))))))) (fun ad27 C28 => (xcl C28 a0 = some 0 ∧ x_X0_refused a0 ad27 C28 (fun r30 C29 => K r30 C29)))) (fun k36_4 => jn (fun (v32 : Int32) => x_X0_need v32 (-5) C3 (fun C33 => (if a2 = 0 then (xcl C33 a0 = some 0 ∧ x_X0_bestKind a0 a1 C33 (fun r36 C35 => K r36 C35)) else if a2 = 1 then (xcl C33 a0 = some 0 ∧ x_X0_timeAs a0 a1 3 C33 (fun r39 C38 => (xcl C38 a0 = some 0 ∧ x_X0_timeAs a0 a1 5 C38 (fun r42 C41 => (if r42 ≤ r39 then K 0 C41 else K 1 C41))))) else if a2 = 2 then (xcl C33 a0 = some 0 ∧ x_X0_bestSack a0 a1 C33 (fun r46 C45 => K r46 C45)) else (xcl C33 a0 = some 0 ∧ x_X0_timeRolling a0 a1 1 C33 (fun r49 C48 => (xcl C48 a0 = some 0 ∧ x_X0_timeRolling a0 a1 0 C48 (fun r52 C51 => (if r52 ≤ r49 then K 0 C51 else K 1 C51))))))) (fun ad55 C56 => (xcl C56 a0 = some 0 ∧ x_X0_refused a0 ad55 C56 (fun r58 C57 => K r58 C57)))) (fun k37_32 => (if r4 = 0 then k36_4 else jn (k37_32 1) (fun k32_59 => (if a2 = 2 then obd (xgr C3 (xis 0) a0 7) (fun ad60 => obd (xgi C3 (xis 4) ad60 1) (fun v61 => (if v61 ≤ 0 then k36_4 else k32_59))) else k32_59))))))) (fun ad65 C66 => (xcl C66 a0 = some 0 ∧ x_X0_refused a0 ad65 C66 (fun r68 C67 => K r68 C67))))
theorem iX0_best : xInfW yX0_best cX0_best 4 (some .int) [(0, 73, 122, 21), (74, 94, 122, 21), (95, 100, 122, 21), (101, 121, 122, 21)] 2 := ⟨q1225, by decide +kernel⟩
set_option maxHeartbeats 4000000 in
theorem xet_X0_best (l : Launch) (hl0 : l.stackTraces = false) (a0 : Nat) (a1 : Int32) (a2 : Int32) (C : XH) (K : Int32 → XH → Prop) (hs : x_X0_best a0 a1 a2 C K) : xMetX l yX0_best (wsW_ yX0_best cX0_best 4 (some .int) [(0, 73, 122, 21), (74, 94, 122, 21), (95, 100, 122, 21), (101, 121, 122, 21)]) 9 243 22 54 C [.ref a0, .int a1, .int a2] (fun D dT A => xQi D dT K A) xE0 := by
  intro D dT adK adV sz
  refine xEnterW (own := RX0) (Qc := xQi D dT K) (XC := xXC D dT xE0) (by decide) rfl (by rfl) ?_
  intro p e s m args below meth c A ls X hnm hK hA hG hT hI hl
  have hx := X.1
  have hb := X.2.1
  have hts := X.2.2.2.2.1
  have hown := X.2.2.2.2.2.1
  have hl : lv_has ls 4 [(0, .ref a0), (1, .int a1), (2, .int a2)] := hl
  unfold x_X0_best at hs
  refine lv_aload_n hx hb dX0_best_0 rfl (lv_at hl 0 rfl) ?_
  refine lv_iload_n hx hb dX0_best_1 rfl (lv_at hl 1 rfl) ?_
  obtain ⟨h1, hs⟩ := hs
  obtain ⟨fh1, h1⟩ := xcl_spec h1
  refine xT_gov hA hI (x_runVT (As := [.int a1]) (rest := []) X hK hA hG hI h1 (q := (RX0, TX0, 10)) rfl rfl (xet_X0_mustChild l hl0 a0 a1 _ _ _ hs) iX0_mustChild q649 q651 qs3 q94 ⟨(Nat.le_of_ble_eq_true rfl), (Nat.le_of_ble_eq_true rfl)⟩ rfl hl.1 rfl (Nat.le_of_ble_eq_true rfl) dX0_best_2 ⟨(Nat.le_of_ble_eq_true rfl), (Nat.le_of_ble_eq_true rfl)⟩) (fun En ce ad65 C66 H locs hs9 hI hce hvm hcl => ?_) (fun C1 H locs hs9 hI => ?_)
  · obtain ⟨rfl, hs0⟩ := hs9
    replace hs := hs0
    refine x_catch (k := 0) (a1 := 0) (a2 := 73) (a3 := 122) (a4 := 21) X hG hT rfl (x_cov rfl) rfl (by decide) q363 (by decide) hce hvm hcl ?_
    refine lv_astore_n (lv' := [(3, .ref ad65), (0, .ref a0), (1, .int a1), (2, .int a2)]) hx hb dX0_best_122 rfl hl (by decide) rfl (fun ls hl => ?_)
    refine lv_aload_n hx hb dX0_best_123 rfl (lv_at hl 1 rfl) ?_
    refine lv_aload_n hx hb dX0_best_124 rfl (lv_at hl 0 rfl) ?_
    obtain ⟨h68, hs⟩ := hs
    obtain ⟨fh68, h68⟩ := xcl_spec h68
    refine x_goi hA hI (x_runV (As := [.ref ad65]) (rest := []) X hK hA hG hI h68 (q := (RX0, TX0, 10)) rfl rfl (xet_X0_refused l a0 ad65 _ _ hs) iX0_refused q538 q540 qs2 q94 ⟨(Nat.le_of_ble_eq_true rfl), (Nat.le_of_ble_eq_true rfl)⟩ rfl hl.1 rfl (Nat.le_of_ble_eq_true rfl) dX0_best_125 ⟨(Nat.le_of_ble_eq_true rfl), (Nat.le_of_ble_eq_true rfl)⟩) (fun r68 C67 H locs hs9 hI => ?_)
    replace hs := hs9
    exact vx_ret (x_reti X hK hI hs (Nat.le_of_ble_eq_true rfl) (Nat.le_of_ble_eq_true rfl) dX0_best_128)
  · replace hs := hs9
    refine lv_iload_n hx hb dX0_best_5 rfl (lv_at hl 2 rfl) ?_
    refine lv_i2l (v := ((a2 : Int32).toInt64)) hx hb dX0_best_6 rfl ?_
    refine lv_lconst (v := 0) hx hb dX0_best_7 (by decide) ?_
    refine lv_ldc2 hx hb hown (hts _ q472) dX0_best_8 ?_
    refine x_goz hA hI (x_runS (As := [.long ((a2 : Int32).toInt64), .long 0, .long 3]) (rest := []) X hK hA hG hI (xet_X0_in l ((a2 : Int32).toInt64) 0 3 _ _ hs) iX0_in q473 q474 q94 ⟨(Nat.le_of_ble_eq_true rfl), (Nat.le_of_ble_eq_true rfl)⟩ rfl hl.1 rfl (Nat.le_of_ble_eq_true rfl) dX0_best_11 ⟨(Nat.le_of_ble_eq_true rfl), (Nat.le_of_ble_eq_true rfl)⟩) (fun r4 C3 H locs br4 hs9 hI => ?_)
    replace hs := hs9
    obtain ⟨k36_4, hk36_4, hs⟩ := jn_ex hs
    have Ek36_4 : ∀ (H : Heap) (locs : List Loc) (ls : Array Slot), k36_4 → xI D dT A s.heap C3 H locs → lv_has ls 4 [(0, .ref a0), (1, .int a1), (2, .int a2)] → W p l e (xRm 9 243 22 54) s m args below meth c H locs 1 7 (vx_MQ below (xQi D dT K A) (xXC D dT xE0 A) args s 22 54 A) (F0 m 36 ls []) := by
      intro H locs ls hs hI hl
      rw [hk36_4] at hs
      refine lv_iconst (v := 0) hx hb dX0_best_36 (by decide) ?_
      refine lv_bipush (v := (-5)) hx hb dX0_best_37 (by decide) ?_
      refine xT_gov hA hI (x_runST (As := [.int 0, .int (-5)]) (rest := []) X hK hA hG hI (xet_X0_need l hl0 0 (-5) _ _ _ hs) iX0_need q469 q470 q94 ⟨(Nat.le_of_ble_eq_true rfl), (Nat.le_of_ble_eq_true rfl)⟩ rfl hl.1 rfl (Nat.le_of_ble_eq_true rfl) dX0_best_39 ⟨(Nat.le_of_ble_eq_true rfl), (Nat.le_of_ble_eq_true rfl)⟩) (fun En ce ad27 C28 H locs hs9 hI hce hvm hcl => ?_) (fun C5 H locs hs9 hI => ?_)
      · obtain ⟨rfl, hs0⟩ := hs9
        replace hs := hs0
        refine x_catch (k := 0) (a1 := 0) (a2 := 73) (a3 := 122) (a4 := 21) X hG hT rfl (x_cov rfl) rfl (by decide) q363 (by decide) hce hvm hcl ?_
        refine lv_astore_n (lv' := [(3, .ref ad27), (0, .ref a0), (1, .int a1), (2, .int a2)]) hx hb dX0_best_122 rfl hl (by decide) rfl (fun ls hl => ?_)
        refine lv_aload_n hx hb dX0_best_123 rfl (lv_at hl 1 rfl) ?_
        refine lv_aload_n hx hb dX0_best_124 rfl (lv_at hl 0 rfl) ?_
        obtain ⟨h30, hs⟩ := hs
        obtain ⟨fh30, h30⟩ := xcl_spec h30
        refine x_goi hA hI (x_runV (As := [.ref ad27]) (rest := []) X hK hA hG hI h30 (q := (RX0, TX0, 10)) rfl rfl (xet_X0_refused l a0 ad27 _ _ hs) iX0_refused q538 q540 qs2 q94 ⟨(Nat.le_of_ble_eq_true rfl), (Nat.le_of_ble_eq_true rfl)⟩ rfl hl.1 rfl (Nat.le_of_ble_eq_true rfl) dX0_best_125 ⟨(Nat.le_of_ble_eq_true rfl), (Nat.le_of_ble_eq_true rfl)⟩) (fun r30 C29 H locs hs9 hI => ?_)
        replace hs := hs9
        exact vx_ret (x_reti X hK hI hs (Nat.le_of_ble_eq_true rfl) (Nat.le_of_ble_eq_true rfl) dX0_best_128)
      · replace hs := hs9
        refine lv_iload_n hx hb dX0_best_42 rfl (lv_at hl 2 rfl) ?_
        by_cases c5_0 : a2 = 0
        · replace hs := ifp c5_0 hs
          refine lv_tableIn (tgt := 68) hx hb dX0_best_43 (by rw [c5_0]; decide) (by rw [c5_0]; decide) (by rw [c5_0]; rfl) (by decide) ?_
          refine lv_aload_n hx hb dX0_best_68 rfl (lv_at hl 0 rfl) ?_
          refine lv_iload_n hx hb dX0_best_69 rfl (lv_at hl 1 rfl) ?_
          obtain ⟨h8, hs⟩ := hs
          obtain ⟨fh8, h8⟩ := xcl_spec h8
          refine x_goi hA hI (x_runV (As := [.int a1]) (rest := []) X hK hA hG hI h8 (q := (RX0, TX0, 10)) rfl rfl (xet_X0_bestKind l a0 a1 _ _ hs) iX0_bestKind q1226 q1228 qs27 q94 ⟨(Nat.le_of_ble_eq_true rfl), (Nat.le_of_ble_eq_true rfl)⟩ rfl hl.1 rfl (Nat.le_of_ble_eq_true rfl) dX0_best_70 ⟨(Nat.le_of_ble_eq_true rfl), (Nat.le_of_ble_eq_true rfl)⟩) (fun r8 C7 H locs hs9 hI => ?_)
          replace hs := hs9
          exact vx_ret (x_reti X hK hI hs (Nat.le_of_ble_eq_true rfl) (Nat.le_of_ble_eq_true rfl) dX0_best_73)
        · replace hs := ifn c5_0 hs
          by_cases c5_1 : a2 = 1
          · replace hs := ifp c5_1 hs
            refine lv_tableIn (tgt := 74) hx hb dX0_best_43 (by rw [c5_1]; decide) (by rw [c5_1]; decide) (by rw [c5_1]; rfl) (by decide) ?_
            refine lv_aload_n hx hb dX0_best_74 rfl (lv_at hl 0 rfl) ?_
            refine lv_iload_n hx hb dX0_best_75 rfl (lv_at hl 1 rfl) ?_
            refine lv_iconst (v := 3) hx hb dX0_best_76 (by decide) ?_
            obtain ⟨h11, hs⟩ := hs
            obtain ⟨fh11, h11⟩ := xcl_spec h11
            refine x_goi hA hI (x_runV (As := [.int a1, .int 3]) (rest := []) X hK hA hG hI h11 (q := (RX0, TX0, 10)) rfl rfl (xet_X0_timeAs l a0 a1 3 _ _ hs) iX0_timeAs q1230 q1232 qs28 q94 ⟨(Nat.le_of_ble_eq_true rfl), (Nat.le_of_ble_eq_true rfl)⟩ rfl hl.1 rfl (Nat.le_of_ble_eq_true rfl) dX0_best_77 ⟨(Nat.le_of_ble_eq_true rfl), (Nat.le_of_ble_eq_true rfl)⟩) (fun r11 C10 H locs hs9 hI => ?_)
            replace hs := hs9
            refine lv_aload_n hx hb dX0_best_80 rfl (lv_at hl 0 rfl) ?_
            refine lv_iload_n hx hb dX0_best_81 rfl (lv_at hl 1 rfl) ?_
            refine lv_iconst (v := 5) hx hb dX0_best_82 (by decide) ?_
            obtain ⟨h14, hs⟩ := hs
            obtain ⟨fh14, h14⟩ := xcl_spec h14
            refine x_goi hA hI (x_runV (As := [.int a1, .int 5]) (rest := [.int r11]) X hK hA hG hI h14 (q := (RX0, TX0, 10)) rfl rfl (xet_X0_timeAs l a0 a1 5 _ _ hs) iX0_timeAs q1230 q1232 qs28 q94 ⟨(Nat.le_of_ble_eq_true rfl), (Nat.le_of_ble_eq_true rfl)⟩ rfl hl.1 rfl (Nat.le_of_ble_eq_true rfl) dX0_best_83 ⟨(Nat.le_of_ble_eq_true rfl), (Nat.le_of_ble_eq_true rfl)⟩) (fun r14 C13 H locs hs9 hI => ?_)
            replace hs := hs9
            refine lv_icmp_ge (tgt := 93) hx hb dX0_best_86 (by decide) (fun c15 => ?_) (fun c15 => ?_)
            · replace hs := ifp c15 hs
              refine lv_iconst (v := 0) hx hb dX0_best_93 (by decide) ?_
              exact vx_ret (x_reti X hK hI hs (Nat.le_of_ble_eq_true rfl) (Nat.le_of_ble_eq_true rfl) dX0_best_94)
            · replace hs := ifn c15 hs
              refine lv_iconst (v := 1) hx hb dX0_best_89 (by decide) ?_
              refine lv_goto (tgt := 94) hx hb dX0_best_90 (by decide) ?_
              exact vx_ret (x_reti X hK hI hs (Nat.le_of_ble_eq_true rfl) (Nat.le_of_ble_eq_true rfl) dX0_best_94)
          · replace hs := ifn c5_1 hs
            by_cases c5_2 : a2 = 2
            · replace hs := ifp c5_2 hs
              refine lv_tableIn (tgt := 95) hx hb dX0_best_43 (by rw [c5_2]; decide) (by rw [c5_2]; decide) (by rw [c5_2]; rfl) (by decide) ?_
              refine lv_aload_n hx hb dX0_best_95 rfl (lv_at hl 0 rfl) ?_
              refine lv_iload_n hx hb dX0_best_96 rfl (lv_at hl 1 rfl) ?_
              obtain ⟨h18, hs⟩ := hs
              obtain ⟨fh18, h18⟩ := xcl_spec h18
              refine x_goi hA hI (x_runV (As := [.int a1]) (rest := []) X hK hA hG hI h18 (q := (RX0, TX0, 10)) rfl rfl (xet_X0_bestSack l a0 a1 _ _ hs) iX0_bestSack q1236 q1238 qs29 q94 ⟨(Nat.le_of_ble_eq_true rfl), (Nat.le_of_ble_eq_true rfl)⟩ rfl hl.1 rfl (Nat.le_of_ble_eq_true rfl) dX0_best_97 ⟨(Nat.le_of_ble_eq_true rfl), (Nat.le_of_ble_eq_true rfl)⟩) (fun r18 C17 H locs hs9 hI => ?_)
              replace hs := hs9
              exact vx_ret (x_reti X hK hI hs (Nat.le_of_ble_eq_true rfl) (Nat.le_of_ble_eq_true rfl) dX0_best_100)
            · replace hs := ifn c5_2 hs
              refine lv_tableOut (tgt := 101) hx hb dX0_best_43 (sw_out (fun k h1 h2 => by
                have h3 : k = 0 ∨ k = 1 ∨ k = 2 := by omega
                rcases h3 with rfl | rfl | rfl
                · exact lv_neT c5_0 rfl
                · exact lv_neT c5_1 rfl
                · exact lv_neT c5_2 rfl
                )) (by decide) ?_
              refine lv_aload_n hx hb dX0_best_101 rfl (lv_at hl 0 rfl) ?_
              refine lv_iload_n hx hb dX0_best_102 rfl (lv_at hl 1 rfl) ?_
              refine lv_iconst (v := 1) hx hb dX0_best_103 (by decide) ?_
              obtain ⟨h21, hs⟩ := hs
              obtain ⟨fh21, h21⟩ := xcl_spec h21
              refine x_goi hA hI (x_runV (As := [.int a1, .int 1]) (rest := []) X hK hA hG hI h21 (q := (RX0, TX0, 10)) rfl rfl (xet_X0_timeRolling l a0 a1 1 _ _ hs) iX0_timeRolling q1244 q1246 qs31 q94 ⟨(Nat.le_of_ble_eq_true rfl), (Nat.le_of_ble_eq_true rfl)⟩ rfl hl.1 rfl (Nat.le_of_ble_eq_true rfl) dX0_best_104 ⟨(Nat.le_of_ble_eq_true rfl), (Nat.le_of_ble_eq_true rfl)⟩) (fun r21 C20 H locs hs9 hI => ?_)
              replace hs := hs9
              refine lv_aload_n hx hb dX0_best_107 rfl (lv_at hl 0 rfl) ?_
              refine lv_iload_n hx hb dX0_best_108 rfl (lv_at hl 1 rfl) ?_
              refine lv_iconst (v := 0) hx hb dX0_best_109 (by decide) ?_
              obtain ⟨h24, hs⟩ := hs
              obtain ⟨fh24, h24⟩ := xcl_spec h24
              refine x_goi hA hI (x_runV (As := [.int a1, .int 0]) (rest := [.int r21]) X hK hA hG hI h24 (q := (RX0, TX0, 10)) rfl rfl (xet_X0_timeRolling l a0 a1 0 _ _ hs) iX0_timeRolling q1244 q1246 qs31 q94 ⟨(Nat.le_of_ble_eq_true rfl), (Nat.le_of_ble_eq_true rfl)⟩ rfl hl.1 rfl (Nat.le_of_ble_eq_true rfl) dX0_best_110 ⟨(Nat.le_of_ble_eq_true rfl), (Nat.le_of_ble_eq_true rfl)⟩) (fun r24 C23 H locs hs9 hI => ?_)
              replace hs := hs9
              refine lv_icmp_ge (tgt := 120) hx hb dX0_best_113 (by decide) (fun c25 => ?_) (fun c25 => ?_)
              · replace hs := ifp c25 hs
                refine lv_iconst (v := 0) hx hb dX0_best_120 (by decide) ?_
                exact vx_ret (x_reti X hK hI hs (Nat.le_of_ble_eq_true rfl) (Nat.le_of_ble_eq_true rfl) dX0_best_121)
              · replace hs := ifn c25 hs
                refine lv_iconst (v := 1) hx hb dX0_best_116 (by decide) ?_
                refine lv_goto (tgt := 121) hx hb dX0_best_117 (by decide) ?_
                exact vx_ret (x_reti X hK hI hs (Nat.le_of_ble_eq_true rfl) (Nat.le_of_ble_eq_true rfl) dX0_best_121)
    obtain ⟨k37_32, hk37_32, hs⟩ := jn_ex hs
    have Ek37_32 : ∀ (v32 : Int32) (H : Heap) (locs : List Loc) (ls : Array Slot), k37_32 v32 → xI D dT A s.heap C3 H locs → lv_has ls 4 [(0, .ref a0), (1, .int a1), (2, .int a2)] → W p l e (xRm 9 243 22 54) s m args below meth c H locs 1 7 (vx_MQ below (xQi D dT K A) (xXC D dT xE0 A) args s 22 54 A) (F0 m 37 ls [.int v32]) := by
      intro v32 H locs ls hs hI hl
      rw [hk37_32] at hs
      refine lv_bipush (v := (-5)) hx hb dX0_best_37 (by decide) ?_
      refine xT_gov hA hI (x_runST (As := [.int v32, .int (-5)]) (rest := []) X hK hA hG hI (xet_X0_need l hl0 v32 (-5) _ _ _ hs) iX0_need q469 q470 q94 ⟨(Nat.le_of_ble_eq_true rfl), (Nat.le_of_ble_eq_true rfl)⟩ rfl hl.1 rfl (Nat.le_of_ble_eq_true rfl) dX0_best_39 ⟨(Nat.le_of_ble_eq_true rfl), (Nat.le_of_ble_eq_true rfl)⟩) (fun En ce ad55 C56 H locs hs9 hI hce hvm hcl => ?_) (fun C33 H locs hs9 hI => ?_)
      · obtain ⟨rfl, hs0⟩ := hs9
        replace hs := hs0
        refine x_catch (k := 0) (a1 := 0) (a2 := 73) (a3 := 122) (a4 := 21) X hG hT rfl (x_cov rfl) rfl (by decide) q363 (by decide) hce hvm hcl ?_
        refine lv_astore_n (lv' := [(3, .ref ad55), (0, .ref a0), (1, .int a1), (2, .int a2)]) hx hb dX0_best_122 rfl hl (by decide) rfl (fun ls hl => ?_)
        refine lv_aload_n hx hb dX0_best_123 rfl (lv_at hl 1 rfl) ?_
        refine lv_aload_n hx hb dX0_best_124 rfl (lv_at hl 0 rfl) ?_
        obtain ⟨h58, hs⟩ := hs
        obtain ⟨fh58, h58⟩ := xcl_spec h58
        refine x_goi hA hI (x_runV (As := [.ref ad55]) (rest := []) X hK hA hG hI h58 (q := (RX0, TX0, 10)) rfl rfl (xet_X0_refused l a0 ad55 _ _ hs) iX0_refused q538 q540 qs2 q94 ⟨(Nat.le_of_ble_eq_true rfl), (Nat.le_of_ble_eq_true rfl)⟩ rfl hl.1 rfl (Nat.le_of_ble_eq_true rfl) dX0_best_125 ⟨(Nat.le_of_ble_eq_true rfl), (Nat.le_of_ble_eq_true rfl)⟩) (fun r58 C57 H locs hs9 hI => ?_)
        replace hs := hs9
        exact vx_ret (x_reti X hK hI hs (Nat.le_of_ble_eq_true rfl) (Nat.le_of_ble_eq_true rfl) dX0_best_128)
      · replace hs := hs9
        refine lv_iload_n hx hb dX0_best_42 rfl (lv_at hl 2 rfl) ?_
        by_cases c33_0 : a2 = 0
        · replace hs := ifp c33_0 hs
          refine lv_tableIn (tgt := 68) hx hb dX0_best_43 (by rw [c33_0]; decide) (by rw [c33_0]; decide) (by rw [c33_0]; rfl) (by decide) ?_
          refine lv_aload_n hx hb dX0_best_68 rfl (lv_at hl 0 rfl) ?_
          refine lv_iload_n hx hb dX0_best_69 rfl (lv_at hl 1 rfl) ?_
          obtain ⟨h36, hs⟩ := hs
          obtain ⟨fh36, h36⟩ := xcl_spec h36
          refine x_goi hA hI (x_runV (As := [.int a1]) (rest := []) X hK hA hG hI h36 (q := (RX0, TX0, 10)) rfl rfl (xet_X0_bestKind l a0 a1 _ _ hs) iX0_bestKind q1226 q1228 qs27 q94 ⟨(Nat.le_of_ble_eq_true rfl), (Nat.le_of_ble_eq_true rfl)⟩ rfl hl.1 rfl (Nat.le_of_ble_eq_true rfl) dX0_best_70 ⟨(Nat.le_of_ble_eq_true rfl), (Nat.le_of_ble_eq_true rfl)⟩) (fun r36 C35 H locs hs9 hI => ?_)
          replace hs := hs9
          exact vx_ret (x_reti X hK hI hs (Nat.le_of_ble_eq_true rfl) (Nat.le_of_ble_eq_true rfl) dX0_best_73)
        · replace hs := ifn c33_0 hs
          by_cases c33_1 : a2 = 1
          · replace hs := ifp c33_1 hs
            refine lv_tableIn (tgt := 74) hx hb dX0_best_43 (by rw [c33_1]; decide) (by rw [c33_1]; decide) (by rw [c33_1]; rfl) (by decide) ?_
            refine lv_aload_n hx hb dX0_best_74 rfl (lv_at hl 0 rfl) ?_
            refine lv_iload_n hx hb dX0_best_75 rfl (lv_at hl 1 rfl) ?_
            refine lv_iconst (v := 3) hx hb dX0_best_76 (by decide) ?_
            obtain ⟨h39, hs⟩ := hs
            obtain ⟨fh39, h39⟩ := xcl_spec h39
            refine x_goi hA hI (x_runV (As := [.int a1, .int 3]) (rest := []) X hK hA hG hI h39 (q := (RX0, TX0, 10)) rfl rfl (xet_X0_timeAs l a0 a1 3 _ _ hs) iX0_timeAs q1230 q1232 qs28 q94 ⟨(Nat.le_of_ble_eq_true rfl), (Nat.le_of_ble_eq_true rfl)⟩ rfl hl.1 rfl (Nat.le_of_ble_eq_true rfl) dX0_best_77 ⟨(Nat.le_of_ble_eq_true rfl), (Nat.le_of_ble_eq_true rfl)⟩) (fun r39 C38 H locs hs9 hI => ?_)
            replace hs := hs9
            refine lv_aload_n hx hb dX0_best_80 rfl (lv_at hl 0 rfl) ?_
            refine lv_iload_n hx hb dX0_best_81 rfl (lv_at hl 1 rfl) ?_
            refine lv_iconst (v := 5) hx hb dX0_best_82 (by decide) ?_
            obtain ⟨h42, hs⟩ := hs
            obtain ⟨fh42, h42⟩ := xcl_spec h42
            refine x_goi hA hI (x_runV (As := [.int a1, .int 5]) (rest := [.int r39]) X hK hA hG hI h42 (q := (RX0, TX0, 10)) rfl rfl (xet_X0_timeAs l a0 a1 5 _ _ hs) iX0_timeAs q1230 q1232 qs28 q94 ⟨(Nat.le_of_ble_eq_true rfl), (Nat.le_of_ble_eq_true rfl)⟩ rfl hl.1 rfl (Nat.le_of_ble_eq_true rfl) dX0_best_83 ⟨(Nat.le_of_ble_eq_true rfl), (Nat.le_of_ble_eq_true rfl)⟩) (fun r42 C41 H locs hs9 hI => ?_)
            replace hs := hs9
            refine lv_icmp_ge (tgt := 93) hx hb dX0_best_86 (by decide) (fun c43 => ?_) (fun c43 => ?_)
            · replace hs := ifp c43 hs
              refine lv_iconst (v := 0) hx hb dX0_best_93 (by decide) ?_
              exact vx_ret (x_reti X hK hI hs (Nat.le_of_ble_eq_true rfl) (Nat.le_of_ble_eq_true rfl) dX0_best_94)
            · replace hs := ifn c43 hs
              refine lv_iconst (v := 1) hx hb dX0_best_89 (by decide) ?_
              refine lv_goto (tgt := 94) hx hb dX0_best_90 (by decide) ?_
              exact vx_ret (x_reti X hK hI hs (Nat.le_of_ble_eq_true rfl) (Nat.le_of_ble_eq_true rfl) dX0_best_94)
          · replace hs := ifn c33_1 hs
            by_cases c33_2 : a2 = 2
            · replace hs := ifp c33_2 hs
              refine lv_tableIn (tgt := 95) hx hb dX0_best_43 (by rw [c33_2]; decide) (by rw [c33_2]; decide) (by rw [c33_2]; rfl) (by decide) ?_
              refine lv_aload_n hx hb dX0_best_95 rfl (lv_at hl 0 rfl) ?_
              refine lv_iload_n hx hb dX0_best_96 rfl (lv_at hl 1 rfl) ?_
              obtain ⟨h46, hs⟩ := hs
              obtain ⟨fh46, h46⟩ := xcl_spec h46
              refine x_goi hA hI (x_runV (As := [.int a1]) (rest := []) X hK hA hG hI h46 (q := (RX0, TX0, 10)) rfl rfl (xet_X0_bestSack l a0 a1 _ _ hs) iX0_bestSack q1236 q1238 qs29 q94 ⟨(Nat.le_of_ble_eq_true rfl), (Nat.le_of_ble_eq_true rfl)⟩ rfl hl.1 rfl (Nat.le_of_ble_eq_true rfl) dX0_best_97 ⟨(Nat.le_of_ble_eq_true rfl), (Nat.le_of_ble_eq_true rfl)⟩) (fun r46 C45 H locs hs9 hI => ?_)
              replace hs := hs9
              exact vx_ret (x_reti X hK hI hs (Nat.le_of_ble_eq_true rfl) (Nat.le_of_ble_eq_true rfl) dX0_best_100)
            · replace hs := ifn c33_2 hs
              refine lv_tableOut (tgt := 101) hx hb dX0_best_43 (sw_out (fun k h1 h2 => by
                have h3 : k = 0 ∨ k = 1 ∨ k = 2 := by omega
                rcases h3 with rfl | rfl | rfl
                · exact lv_neT c33_0 rfl
                · exact lv_neT c33_1 rfl
                · exact lv_neT c33_2 rfl
                )) (by decide) ?_
              refine lv_aload_n hx hb dX0_best_101 rfl (lv_at hl 0 rfl) ?_
              refine lv_iload_n hx hb dX0_best_102 rfl (lv_at hl 1 rfl) ?_
              refine lv_iconst (v := 1) hx hb dX0_best_103 (by decide) ?_
              obtain ⟨h49, hs⟩ := hs
              obtain ⟨fh49, h49⟩ := xcl_spec h49
              refine x_goi hA hI (x_runV (As := [.int a1, .int 1]) (rest := []) X hK hA hG hI h49 (q := (RX0, TX0, 10)) rfl rfl (xet_X0_timeRolling l a0 a1 1 _ _ hs) iX0_timeRolling q1244 q1246 qs31 q94 ⟨(Nat.le_of_ble_eq_true rfl), (Nat.le_of_ble_eq_true rfl)⟩ rfl hl.1 rfl (Nat.le_of_ble_eq_true rfl) dX0_best_104 ⟨(Nat.le_of_ble_eq_true rfl), (Nat.le_of_ble_eq_true rfl)⟩) (fun r49 C48 H locs hs9 hI => ?_)
              replace hs := hs9
              refine lv_aload_n hx hb dX0_best_107 rfl (lv_at hl 0 rfl) ?_
              refine lv_iload_n hx hb dX0_best_108 rfl (lv_at hl 1 rfl) ?_
              refine lv_iconst (v := 0) hx hb dX0_best_109 (by decide) ?_
              obtain ⟨h52, hs⟩ := hs
              obtain ⟨fh52, h52⟩ := xcl_spec h52
              refine x_goi hA hI (x_runV (As := [.int a1, .int 0]) (rest := [.int r49]) X hK hA hG hI h52 (q := (RX0, TX0, 10)) rfl rfl (xet_X0_timeRolling l a0 a1 0 _ _ hs) iX0_timeRolling q1244 q1246 qs31 q94 ⟨(Nat.le_of_ble_eq_true rfl), (Nat.le_of_ble_eq_true rfl)⟩ rfl hl.1 rfl (Nat.le_of_ble_eq_true rfl) dX0_best_110 ⟨(Nat.le_of_ble_eq_true rfl), (Nat.le_of_ble_eq_true rfl)⟩) (fun r52 C51 H locs hs9 hI => ?_)
              replace hs := hs9
              refine lv_icmp_ge (tgt := 120) hx hb dX0_best_113 (by decide) (fun c53 => ?_) (fun c53 => ?_)
              · replace hs := ifp c53 hs
                refine lv_iconst (v := 0) hx hb dX0_best_120 (by decide) ?_
                exact vx_ret (x_reti X hK hI hs (Nat.le_of_ble_eq_true rfl) (Nat.le_of_ble_eq_true rfl) dX0_best_121)
              · replace hs := ifn c53 hs
                refine lv_iconst (v := 1) hx hb dX0_best_116 (by decide) ?_
                refine lv_goto (tgt := 121) hx hb dX0_best_117 (by decide) ?_
                exact vx_ret (x_reti X hK hI hs (Nat.le_of_ble_eq_true rfl) (Nat.le_of_ble_eq_true rfl) dX0_best_121)
    refine lv_if_eq (tgt := 36) hx hb dX0_best_14 (by decide) (fun c63 => ?_) (fun c63 => ?_)
    · replace hs := ifp c63 hs
      exact Ek36_4 _ _ _ hs hI hl
    · replace hs := ifn c63 hs
      refine lv_iload_n hx hb dX0_best_17 rfl (lv_at hl 2 rfl) ?_
      refine lv_iconst (v := 2) hx hb dX0_best_18 (by decide) ?_
      obtain ⟨k32_59, hk32_59, hs⟩ := jn_ex hs
      have Ek32_59 : ∀ (H : Heap) (locs : List Loc) (ls : Array Slot), k32_59 → xI D dT A s.heap C3 H locs → lv_has ls 4 [(0, .ref a0), (1, .int a1), (2, .int a2)] → W p l e (xRm 9 243 22 54) s m args below meth c H locs 1 7 (vx_MQ below (xQi D dT K A) (xXC D dT xE0 A) args s 22 54 A) (F0 m 32 ls []) := by
        intro H locs ls hs hI hl
        rw [hk32_59] at hs
        refine lv_iconst (v := 1) hx hb dX0_best_32 (by decide) ?_
        refine lv_goto (tgt := 37) hx hb dX0_best_33 (by decide) ?_
        exact Ek37_32 _ _ _ _ hs hI hl
      refine lv_icmp_ne (tgt := 32) hx hb dX0_best_19 (by decide) (fun c62 => ?_) (fun c62 => ?_)
      · replace hs := ifn c62 hs
        exact Ek32_59 _ _ _ hs hI hl
      · replace hs := ifp c62 hs
        refine lv_aload_n hx hb dX0_best_22 rfl (lv_at hl 0 rfl) ?_
        obtain ⟨ad60, ead60, hs⟩ := hs
        refine x_get (v := .ref ad60) X hK hI 0 7 rfl in_X0 rfl q335 rfl (xgr_spec ead60) dX0_best_23 ?_
        obtain ⟨v61, ev61, hs⟩ := hs
        refine x_get (v := .int v61) X hK hI 4 1 rfl in_X4 rfl q257 rfl (xgi_spec ev61) dX0_best_26 ?_
        refine lv_if_le (tgt := 36) hx hb dX0_best_29 (by decide) (fun c61 => ?_) (fun c61 => ?_)
        · replace hs := ifp c61 hs
          exact Ek36_4 _ _ _ hs hI hl
        · replace hs := ifn c61 hs
          exact Ek32_59 _ _ _ hs hI hl
def x_X3_worth_l11 (a0 : Nat) (k62_4 : Int32 → Int32 → Int32 → XH → Prop) : Nat → Int32 → Int32 → Int32 → Int32 → XH → Prop
  | 0, _, _, _, _, _ => False
  | n11_14 + 1, x10, x11, x12, x13, C14 => obd (xgi C14 (xis 3) a0 6) (fun v16 => (if v16 ≤ x13 then k62_4 x10 x11 x12 C14 else obd (xgr C14 (xis 3) a0 0) (fun ad17 => obd (xar C14 6 ad17 x13) (fun ad18 => obd (xgr C14 (xis 3) a0 1) (fun ad19 => obd (xai C14 0 ad19 x13) (fun v20 => obd (xai C14 0 ad18 v20) (fun v21 => x_X3_worth_l11 a0 k62_4 n11_14 (x10 + v21) (imax x11 v21) (imin x12 v21) (x13 + 1) C14)))))))
theorem x_X3_worth_l11_s (a0 : Nat) (k62_4 : Int32 → Int32 → Int32 → XH → Prop) (n11_14 : Nat) (x10 : Int32) (x11 : Int32) (x12 : Int32) (x13 : Int32) (C14 : XH) : x_X3_worth_l11 a0 k62_4 (n11_14 + 1) x10 x11 x12 x13 C14 = (obd (xgi C14 (xis 3) a0 6) (fun v16 => (if v16 ≤ x13 then k62_4 x10 x11 x12 C14 else obd (xgr C14 (xis 3) a0 0) (fun ad17 => obd (xar C14 6 ad17 x13) (fun ad18 => obd (xgr C14 (xis 3) a0 1) (fun ad19 => obd (xai C14 0 ad19 x13) (fun v20 => obd (xai C14 0 ad18 v20) (fun v21 => x_X3_worth_l11 a0 k62_4 n11_14 (x10 + v21) (imax x11 v21) (imin x12 v21) (x13 + 1) C14)))))))) := rfl
def x_X3_worth (a0 : Nat) (C : XH) (K : Int32 → XH → Prop) : Prop := jn (fun (x1 : Int32) (x2 : Int32) (x3 : Int32) (C4 : XH) => obd (xgi C4 (xis 3) a0 5) (fun v6 => (if v6 = 0 then K x1 C4 else obd (xgi C4 (xis 3) a0 5) (fun v7 => (if v7 = 1 then K x2 C4 else K (x2 - x3) C4))))) (fun k62_4 => x_X3_worth_l11 a0 k62_4 NF 0 0 999 0 C)
theorem iX3_worth : xInf yX3_worth cX3_worth 6 (some .int) 0 := ⟨q1268, by decide +kernel⟩
set_option maxHeartbeats 4000000 in
theorem xet_X3_worth (l : Launch) (a0 : Nat) (C : XH) (K : Int32 → XH → Prop) (hs : x_X3_worth a0 C K) : xMeti l yX3_worth (ws_ yX3_worth cX3_worth 6 (some .int)) 1 24 0 0 C [.ref a0] K := by
  intro D dT adK adV sz
  refine xEnter (own := RX3) (Qc := xQi D dT K) (by decide) rfl (by rfl) ?_
  intro p e s m args below meth c A ls X hnm hK hA hG hI hl
  have hx := X.1
  have hb := X.2.1
  have hts := X.2.2.2.2.1
  have hown := X.2.2.2.2.2.1
  have hl : lv_has ls 6 [(0, .ref a0)] := hl
  unfold x_X3_worth at hs
  refine lv_iconst (v := 0) hx hb dX3_worth_0 (by decide) ?_
  refine lv_istore_n (lv' := [(1, .int 0), (0, .ref a0)]) hx hb dX3_worth_1 rfl hl (by decide) rfl (fun ls hl => ?_)
  refine lv_iconst (v := 0) hx hb dX3_worth_2 (by decide) ?_
  refine lv_istore_n (lv' := [(2, .int 0), (1, .int 0), (0, .ref a0)]) hx hb dX3_worth_3 rfl hl (by decide) rfl (fun ls hl => ?_)
  refine lv_sipush (v := 999) hx hb dX3_worth_4 (by decide) ?_
  refine lv_istore_n (lv' := [(3, .int 999), (2, .int 0), (1, .int 0), (0, .ref a0)]) hx hb dX3_worth_7 rfl hl (by decide) rfl (fun ls hl => ?_)
  refine lv_iconst (v := 0) hx hb dX3_worth_8 (by decide) ?_
  refine lv_istore (lv' := [(4, .int 0), (3, .int 999), (2, .int 0), (1, .int 0), (0, .ref a0)]) hx hb dX3_worth_9 hl (by decide) rfl (fun ls hl => ?_)
  obtain ⟨k62_4, hk62_4, hs⟩ := jn_ex hs
  have Ek62_4 : ∀ (x1 : Int32) (x2 : Int32) (x3 : Int32) (C4 : XH) (H : Heap) (locs : List Loc) (ls : Array Slot), k62_4 x1 x2 x3 C4 → xI D dT A s.heap C4 H locs → lv_has ls 6 [(0, .ref a0), (1, .int x1), (2, .int x2), (3, .int x3)] → W p l e (xRm 1 24 0 0) s m args below meth c H locs 0 0 (MQ below (xQi D dT K A) args s 0 0 A) (F0 m 62 ls []) := by
    intro x1 x2 x3 C4 H locs ls hs hI hl
    rw [hk62_4] at hs
    refine lv_aload_n hx hb dX3_worth_62 rfl (lv_at hl 0 rfl) ?_
    obtain ⟨v6, ev6, hs⟩ := hs
    refine x_get (v := .int v6) X hK hI 3 5 rfl in_X3 rfl q222 rfl (xgi_spec ev6) dX3_worth_63 ?_
    refine lv_if_ne (tgt := 73) hx hb dX3_worth_66 (by decide) (fun c8 => ?_) (fun c8 => ?_)
    · replace hs := ifn c8 hs
      refine lv_aload_n hx hb dX3_worth_73 rfl (lv_at hl 0 rfl) ?_
      obtain ⟨v7, ev7, hs⟩ := hs
      refine x_get (v := .int v7) X hK hI 3 5 rfl in_X3 rfl q222 rfl (xgi_spec ev7) dX3_worth_74 ?_
      refine lv_iconst (v := 1) hx hb dX3_worth_77 (by decide) ?_
      refine lv_icmp_ne (tgt := 85) hx hb dX3_worth_78 (by decide) (fun c7 => ?_) (fun c7 => ?_)
      · replace hs := ifn c7 hs
        refine lv_iload_n hx hb dX3_worth_85 rfl (lv_at hl 2 rfl) ?_
        refine lv_iload_n hx hb dX3_worth_86 rfl (lv_at hl 3 rfl) ?_
        refine lv_isub hx hb dX3_worth_87 ?_
        exact x_reti X hK hI hs (Nat.le_of_ble_eq_true rfl) (Nat.le_of_ble_eq_true rfl) dX3_worth_88
      · replace hs := ifp c7 hs
        refine lv_iload_n hx hb dX3_worth_81 rfl (lv_at hl 2 rfl) ?_
        refine lv_goto (tgt := 88) hx hb dX3_worth_82 (by decide) ?_
        exact x_reti X hK hI hs (Nat.le_of_ble_eq_true rfl) (Nat.le_of_ble_eq_true rfl) dX3_worth_88
    · replace hs := ifp c8 hs
      refine lv_iload_n hx hb dX3_worth_69 rfl (lv_at hl 1 rfl) ?_
      refine lv_goto (tgt := 88) hx hb dX3_worth_70 (by decide) ?_
      exact x_reti X hK hI hs (Nat.le_of_ble_eq_true rfl) (Nat.le_of_ble_eq_true rfl) dX3_worth_88
  have Lx_X3_worth_l11 : ∀ (n11_14 : Nat) (x10 : Int32) (x11 : Int32) (x12 : Int32) (x13 : Int32) (C14 : XH) (H : Heap) (locs : List Loc) (ls : Array Slot), x_X3_worth_l11 a0 k62_4 n11_14 x10 x11 x12 x13 C14 → xI D dT A s.heap C14 H locs → lv_has ls 6 [(0, .ref a0), (1, .int x10), (2, .int x11), (3, .int x12), (4, .int x13)] → W p l e (xRm 1 24 0 0) s m args below meth c H locs 0 0 (MQ below (xQi D dT K A) args s 0 0 A) (F0 m 11 ls []) := by
    intro n11_14
    induction n11_14 with
    | zero =>
      intro x10 x11 x12 x13 C14 H locs ls hs
      exact False.elim hs
    | succ n11_14 ihx_X3_worth_l11 =>
      intro x10 x11 x12 x13 C14 H locs ls hs hI hl
      rw [x_X3_worth_l11_s] at hs
      refine lv_iload hx hb dX3_worth_11 (lv_at hl 4 rfl) ?_
      refine lv_aload_n hx hb dX3_worth_13 rfl (lv_at hl 0 rfl) ?_
      obtain ⟨v16, ev16, hs⟩ := hs
      refine x_get (v := .int v16) X hK hI 3 6 rfl in_X3 rfl q223 rfl (xgi_spec ev16) dX3_worth_14 ?_
      refine lv_icmp_ge (tgt := 62) hx hb dX3_worth_17 (by decide) (fun c21 => ?_) (fun c21 => ?_)
      · replace hs := ifp c21 hs
        exact Ek62_4 _ _ _ _ _ _ _ hs hI (lv_sub hl [0, 1, 2, 3] rfl)
      · replace hs := ifn c21 hs
        refine lv_aload_n hx hb dX3_worth_20 rfl (lv_at hl 0 rfl) ?_
        obtain ⟨ad17, ead17, hs⟩ := hs
        refine x_get (v := .ref ad17) X hK hI 3 0 rfl in_X3 rfl q216 rfl (xgr_spec ead17) dX3_worth_21 ?_
        refine lv_iload hx hb dX3_worth_24 (lv_at hl 4 rfl) ?_
        obtain ⟨ad18, ead18, hs⟩ := hs
        refine x_aald X hK hI 6 rfl rfl ead18 dX3_worth_26 ?_
        refine lv_aload_n hx hb dX3_worth_27 rfl (lv_at hl 0 rfl) ?_
        obtain ⟨ad19, ead19, hs⟩ := hs
        refine x_get (v := .ref ad19) X hK hI 3 1 rfl in_X3 rfl q217 rfl (xgr_spec ead19) dX3_worth_28 ?_
        refine lv_iload hx hb dX3_worth_31 (lv_at hl 4 rfl) ?_
        obtain ⟨v20, ev20, hs⟩ := hs
        refine x_iald X hK hI ev20 dX3_worth_33 ?_
        obtain ⟨v21, ev21, hs⟩ := hs
        refine x_iald X hK hI ev21 dX3_worth_34 ?_
        refine lv_istore (lv' := [(5, .int v21), (0, .ref a0), (1, .int x10), (2, .int x11), (3, .int x12), (4, .int x13)]) hx hb dX3_worth_35 hl (by decide) rfl (fun ls hl => ?_)
        refine lv_iload_n hx hb dX3_worth_37 rfl (lv_at hl 2 rfl) ?_
        refine lv_iload hx hb dX3_worth_38 (lv_at hl 0 rfl) ?_
        refine lv_iadd hx hb dX3_worth_40 ?_
        refine lv_istore_n (lv' := [(1, .int (x10 + v21)), (5, .int v21), (0, .ref a0), (2, .int x11), (3, .int x12), (4, .int x13)]) hx hb dX3_worth_41 rfl hl (by decide) rfl (fun ls hl => ?_)
        refine lv_iload_n hx hb dX3_worth_42 rfl (lv_at hl 3 rfl) ?_
        refine lv_iload hx hb dX3_worth_43 (lv_at hl 1 rfl) ?_
        refine va_mmax (rest := []) hx hb (X.2.2.2.1.trans hl.1.symm) hown (hts _ q1269) (hts _ q717) (hts _ q116) (hts _ q718) (Nat.le_of_ble_eq_true rfl) (Nat.le_of_ble_eq_true rfl) (Nat.le_of_ble_eq_true rfl) (Nat.le_of_ble_eq_true rfl) dX3_worth_45 ?_
        refine lv_istore_n (lv' := [(2, .int (imax x11 v21)), (1, .int (x10 + v21)), (5, .int v21), (0, .ref a0), (3, .int x12), (4, .int x13)]) hx hb dX3_worth_48 rfl hl (by decide) rfl (fun ls hl => ?_)
        refine lv_iload_n hx hb dX3_worth_49 rfl (lv_at hl 4 rfl) ?_
        refine lv_iload hx hb dX3_worth_50 (lv_at hl 2 rfl) ?_
        refine va_mmin (rest := []) hx hb (X.2.2.2.1.trans hl.1.symm) hown (hts _ q1270) (hts _ q1175) (hts _ q116) (hts _ q1176) (Nat.le_of_ble_eq_true rfl) (Nat.le_of_ble_eq_true rfl) (Nat.le_of_ble_eq_true rfl) (Nat.le_of_ble_eq_true rfl) dX3_worth_52 ?_
        refine lv_istore_n (lv' := [(3, .int (imin x12 v21)), (2, .int (imax x11 v21)), (1, .int (x10 + v21)), (5, .int v21), (0, .ref a0), (4, .int x13)]) hx hb dX3_worth_55 rfl hl (by decide) rfl (fun ls hl => ?_)
        refine lv_iinc (v := (x13 + 1)) (lv' := [(4, .int (x13 + 1)), (3, .int (imin x12 v21)), (2, .int (imax x11 v21)), (1, .int (x10 + v21)), (5, .int v21), (0, .ref a0)]) hx hb dX3_worth_56 hl (k := 5) rfl (congrArg (fun z => x13 + z) (show Int32.ofInt (1) = 1 by decide)) (by decide) rfl (fun ls hl => ?_)
        refine lv_goto (tgt := 11) hx hb dX3_worth_59 (by decide) ?_
        exact ihx_X3_worth_l11 _ _ _ _ _ _ _ _ hs hI (lv_sub hl [5, 3, 2, 1, 0] rfl)
  exact Lx_X3_worth_l11 NF _ _ _ _ _ _ _ _ hs hI (lv_sub hl [4, 3, 2, 1, 0] rfl)
def x_X3_seek_l54 (K : XH → Prop) (a0 : Nat) (a1 : Int32) (a2 : Int32) (mG : Nat → Int32 → Int32 → XH → (XH → Prop) → Prop) : Nat → Int32 → XH → Prop
  | 0, _, _ => False
  | n54_3 + 1, x2, C3 => obd (xgr C3 (xis 3) a0 4) (fun ad5 => obd (xgi C3 (xis 4) ad5 1) (fun v6 => (if v6 ≤ x2 then K C3 else jn (fun (C7 : XH) => x_X3_seek_l54 K a0 a1 a2 mG n54_3 (x2 + 1) C7) (fun k92_7 => (if ((a2 >>> (x2 &&& 31)) &&& 1) = 0 then obd (xgr C3 (xis 3) a0 1) (fun ad8 => obd (xsi C3 ad8 a1 x2) (fun C9 => (xcl C9 a0 = some 3 ∧ mG a0 (a1 + 1) (a2 ||| (1 <<< (x2 &&& 31))) C9 (fun C10 => k92_7 C10)))) else k92_7 C3)))))
theorem x_X3_seek_l54_s (K : XH → Prop) (a0 : Nat) (a1 : Int32) (a2 : Int32) (mG : Nat → Int32 → Int32 → XH → (XH → Prop) → Prop) (n54_3 : Nat) (x2 : Int32) (C3 : XH) : x_X3_seek_l54 K a0 a1 a2 mG (n54_3 + 1) x2 C3 = (obd (xgr C3 (xis 3) a0 4) (fun ad5 => obd (xgi C3 (xis 4) ad5 1) (fun v6 => (if v6 ≤ x2 then K C3 else jn (fun (C7 : XH) => x_X3_seek_l54 K a0 a1 a2 mG n54_3 (x2 + 1) C7) (fun k92_7 => (if ((a2 >>> (x2 &&& 31)) &&& 1) = 0 then obd (xgr C3 (xis 3) a0 1) (fun ad8 => obd (xsi C3 ad8 a1 x2) (fun C9 => (xcl C9 a0 = some 3 ∧ mG a0 (a1 + 1) (a2 ||| (1 <<< (x2 &&& 31))) C9 (fun C10 => k92_7 C10)))) else k92_7 C3)))))) := rfl
def x_X3_seek : Nat → Nat → Int32 → Int32 → XH → (XH → Prop) → Prop
  | 0, _, _, _, _, _ => False
  | n + 1, a0, a1, a2, C, K => jn (x_X3_seek n) (fun mG => obd (xgi C (xis 3) a0 6) (fun v1 => (if a1 = v1 then (xcl C a0 = some 3 ∧ x_X3_worth a0 C (fun r15 C14 => obd (xgi C14 (xis 3) a0 7) (fun v17 => jn (obd (xpv C14 (xis 3) a0 7 (.int r15)) (fun C18 => obd (xgr C18 (xis 3) a0 1) (fun ad19 => obd (xgr C18 (xis 3) a0 2) (fun ad20 => obd (xgi C18 (xis 3) a0 6) (fun v21 => xcpi 0 C18 ad19 0 ad20 0 v21 (fun C22 => K C22)))))) (fun k29_17 => (if v17 = (-1) then k29_17 else obd (xgi C14 (xis 3) a0 7) (fun v23 => (if v23 ≤ r15 then K C14 else k29_17))))))) else x_X3_seek_l54 K a0 a1 a2 mG NF 0 C)))
theorem x_X3_seek_s (n : Nat) (a0 : Nat) (a1 : Int32) (a2 : Int32) (C : XH) (K : XH → Prop) : x_X3_seek (n + 1) a0 a1 a2 C K = (jn (x_X3_seek n) (fun mG => obd (xgi C (xis 3) a0 6) (fun v1 => (if a1 = v1 then (xcl C a0 = some 3 ∧ x_X3_worth a0 C (fun r15 C14 => obd (xgi C14 (xis 3) a0 7) (fun v17 => jn (obd (xpv C14 (xis 3) a0 7 (.int r15)) (fun C18 => obd (xgr C18 (xis 3) a0 1) (fun ad19 => obd (xgr C18 (xis 3) a0 2) (fun ad20 => obd (xgi C18 (xis 3) a0 6) (fun v21 => xcpi 0 C18 ad19 0 ad20 0 v21 (fun C22 => K C22)))))) (fun k29_17 => (if v17 = (-1) then k29_17 else obd (xgi C14 (xis 3) a0 7) (fun v23 => (if v23 ≤ r15 then K C14 else k29_17))))))) else x_X3_seek_l54 K a0 a1 a2 mG NF 0 C)))) := rfl
theorem iX3_seek : xInf yX3_seek cX3_seek 4 none 2 := ⟨q1264, by decide +kernel⟩
set_option maxHeartbeats 4000000 in
theorem xet_X3_seek (l : Launch) : ∀ (n : Nat) (a0 : Nat) (a1 : Int32) (a2 : Int32) (C : XH) (K : XH → Prop) (hs : x_X3_seek n a0 a1 a2 C K), xMetv l yX3_seek (ws_ yX3_seek cX3_seek 4 none) (n + 3) (60 * n + 300) 0 0 C [.ref a0, .int a1, .int a2] K := by
  intro n
  induction n with
  | zero =>
    intro a0 a1 a2 C K hs
    exact False.elim hs
  | succ n ih =>
    intro a0 a1 a2 C K hs
    intro D dT adK adV sz
    refine xEnter (own := RX3) (Qc := xQv D dT K) (by decide) rfl (by rfl) ?_
    intro p e s m args below meth c A ls X hnm hK hA hG hI hl
    have hx := X.1
    have hb := X.2.1
    have hts := X.2.2.2.2.1
    have hown := X.2.2.2.2.2.1
    have hl : lv_has ls 4 [(0, .ref a0), (1, .int a1), (2, .int a2)] := hl
    rw [x_X3_seek_s] at hs
    obtain ⟨mG, hmG, hs⟩ := jn_ex hs
    have ih : ∀ (a0 : Nat) (a1 : Int32) (a2 : Int32) (C : XH) (K : XH → Prop) (hs : mG a0 a1 a2 C K), xMetv l yX3_seek (ws_ yX3_seek cX3_seek 4 none) (n + 3) (60 * n + 300) 0 0 C [.ref a0, .int a1, .int a2] K := by rw [hmG]; exact ih
    refine lv_iload_n hx hb dX3_seek_0 rfl (lv_at hl 1 rfl) ?_
    refine lv_aload_n hx hb dX3_seek_1 rfl (lv_at hl 0 rfl) ?_
    obtain ⟨v1, ev1, hs⟩ := hs
    refine x_get (v := .int v1) X hK hI 3 6 rfl in_X3 rfl q223 rfl (xgi_spec ev1) dX3_seek_2 ?_
    refine lv_icmp_ne (tgt := 52) hx hb dX3_seek_5 (by decide) (fun c25 => ?_) (fun c25 => ?_)
    · replace hs := ifn c25 hs
      refine lv_iconst (v := 0) hx hb dX3_seek_52 (by decide) ?_
      refine lv_istore_n (lv' := [(3, .int 0), (0, .ref a0), (1, .int a1), (2, .int a2)]) hx hb dX3_seek_53 rfl hl (by decide) rfl (fun ls hl => ?_)
      have Lx_X3_seek_l54 : ∀ (n54_3 : Nat) (x2 : Int32) (C3 : XH) (H : Heap) (locs : List Loc) (ls : Array Slot), x_X3_seek_l54 K a0 a1 a2 mG n54_3 x2 C3 → xI D dT A s.heap C3 H locs → lv_has ls 4 [(0, .ref a0), (1, .int a1), (2, .int a2), (3, .int x2)] → W p l e (xRm (n + 1 + 3) (60 * (n + 1) + 300) 0 0) s m args below meth c H locs 0 0 (MQ below (xQv D dT K A) args s 0 0 A) (F0 m 54 ls []) := by
        intro n54_3
        induction n54_3 with
        | zero =>
          intro x2 C3 H locs ls hs
          exact False.elim hs
        | succ n54_3 ihx_X3_seek_l54 =>
          intro x2 C3 H locs ls hs hI hl
          rw [x_X3_seek_l54_s] at hs
          refine lv_iload_n hx hb dX3_seek_54 rfl (lv_at hl 3 rfl) ?_
          refine lv_aload_n hx hb dX3_seek_55 rfl (lv_at hl 0 rfl) ?_
          obtain ⟨ad5, ead5, hs⟩ := hs
          refine x_get (v := .ref ad5) X hK hI 3 4 rfl in_X3 rfl q221 rfl (xgr_spec ead5) dX3_seek_56 ?_
          obtain ⟨v6, ev6, hs⟩ := hs
          refine x_get (v := .int v6) X hK hI 4 1 rfl in_X4 rfl q255 rfl (xgi_spec ev6) dX3_seek_59 ?_
          refine lv_icmp_ge (tgt := 98) hx hb dX3_seek_62 (by decide) (fun c12 => ?_) (fun c12 => ?_)
          · replace hs := ifp c12 hs
            exact x_retv X hK hI hs (Nat.le_of_ble_eq_true rfl) (Nat.le_of_ble_eq_true rfl) dX3_seek_98
          · replace hs := ifn c12 hs
            refine lv_iload_n hx hb dX3_seek_65 rfl (lv_at hl 2 rfl) ?_
            refine lv_iload_n hx hb dX3_seek_66 rfl (lv_at hl 3 rfl) ?_
            refine lv_ishr hx hb dX3_seek_67 ?_
            refine lv_iconst (v := 1) hx hb dX3_seek_68 (by decide) ?_
            refine lv_iand hx hb dX3_seek_69 ?_
            obtain ⟨k92_7, hk92_7, hs⟩ := jn_ex hs
            have Ek92_7 : ∀ (C7 : XH) (H : Heap) (locs : List Loc) (ls : Array Slot), k92_7 C7 → xI D dT A s.heap C7 H locs → lv_has ls 4 [(0, .ref a0), (1, .int a1), (2, .int a2), (3, .int x2)] → W p l e (xRm (n + 1 + 3) (60 * (n + 1) + 300) 0 0) s m args below meth c H locs 0 0 (MQ below (xQv D dT K A) args s 0 0 A) (F0 m 92 ls []) := by
              intro C7 H locs ls hs hI hl
              rw [hk92_7] at hs
              refine lv_iinc (v := (x2 + 1)) (lv' := [(3, .int (x2 + 1)), (0, .ref a0), (1, .int a1), (2, .int a2)]) hx hb dX3_seek_92 hl (k := 3) rfl (congrArg (fun z => x2 + z) (show Int32.ofInt (1) = 1 by decide)) (by decide) rfl (fun ls hl => ?_)
              refine lv_goto (tgt := 54) hx hb dX3_seek_95 (by decide) ?_
              exact ihx_X3_seek_l54 _ _ _ _ _ hs hI (lv_sub hl [1, 2, 3, 0] rfl)
            refine lv_if_ne (tgt := 92) hx hb dX3_seek_70 (by decide) (fun c11 => ?_) (fun c11 => ?_)
            · replace hs := ifn c11 hs
              exact Ek92_7 _ _ _ _ hs hI hl
            · replace hs := ifp c11 hs
              refine lv_aload_n hx hb dX3_seek_73 rfl (lv_at hl 0 rfl) ?_
              obtain ⟨ad8, ead8, hs⟩ := hs
              refine x_get (v := .ref ad8) X hK hI 3 1 rfl in_X3 rfl q217 rfl (xgr_spec ead8) dX3_seek_74 ?_
              refine lv_iload_n hx hb dX3_seek_77 rfl (lv_at hl 1 rfl) ?_
              refine lv_iload_n hx hb dX3_seek_78 rfl (lv_at hl 3 rfl) ?_
              obtain ⟨C9, eC9, hs⟩ := hs
              refine x_iast X hK hI eC9 dX3_seek_79 (fun H locs hI => ?_)
              refine lv_aload_n hx hb dX3_seek_80 rfl (lv_at hl 0 rfl) ?_
              refine lv_iload_n hx hb dX3_seek_81 rfl (lv_at hl 1 rfl) ?_
              refine lv_iconst (v := 1) hx hb dX3_seek_82 (by decide) ?_
              refine lv_iadd hx hb dX3_seek_83 ?_
              refine lv_iload_n hx hb dX3_seek_84 rfl (lv_at hl 2 rfl) ?_
              refine lv_iconst (v := 1) hx hb dX3_seek_85 (by decide) ?_
              refine lv_iload_n hx hb dX3_seek_86 rfl (lv_at hl 3 rfl) ?_
              refine lv_ishl hx hb dX3_seek_87 ?_
              refine lv_ior hx hb dX3_seek_88 ?_
              obtain ⟨h10, hs⟩ := hs
              obtain ⟨fh10, h10⟩ := xcl_spec h10
              refine x_gov hA hI (x_runV (As := [.int (a1 + 1), .int (a2 ||| (1 <<< (x2 &&& 31)))]) (rest := []) X hK hA hG hI h10 (q := (RX3, TX3, 8)) rfl rfl (ih a0 (a1 + 1) (a2 ||| (1 <<< (x2 &&& 31))) _ _ hs) iX3_seek q1261 q1263 qs32 q97 ⟨show (n + 3) + 1 ≤ n + 4 by omega, show 8 + (4 + 11) + (60 * n + 300) ≤ 60 * (n + 1) + 300 by omega⟩ rfl hl.1 rfl (Nat.le_of_ble_eq_true rfl) dX3_seek_89 ⟨(Nat.le_of_ble_eq_true rfl), (Nat.le_of_ble_eq_true rfl)⟩) (fun C10 H locs hs9 hI => ?_)
              replace hs := hs9
              exact Ek92_7 _ _ _ _ hs hI hl
      exact Lx_X3_seek_l54 NF _ _ _ _ _ hs hI (lv_sub hl [1, 2, 3, 0] rfl)
    · replace hs := ifp c25 hs
      refine lv_aload_n hx hb dX3_seek_8 rfl (lv_at hl 0 rfl) ?_
      obtain ⟨h15, hs⟩ := hs
      obtain ⟨fh15, h15⟩ := xcl_spec h15
      refine x_goi hA hI (x_runV (As := []) (rest := []) X hK hA hG hI h15 (q := (RX3, TX3, 8)) rfl rfl (xet_X3_worth l a0 _ _ hs) iX3_worth q1265 q1267 qs33 q97 ⟨show 1 + 1 ≤ n + 4 by omega, show 8 + (6 + 11) + 24 ≤ 60 * (n + 1) + 300 by omega⟩ rfl hl.1 rfl (Nat.le_of_ble_eq_true rfl) dX3_seek_9 ⟨(Nat.le_of_ble_eq_true rfl), (Nat.le_of_ble_eq_true rfl)⟩) (fun r15 C14 H locs hs9 hI => ?_)
      replace hs := hs9
      refine lv_istore_n (lv' := [(3, .int r15), (0, .ref a0), (1, .int a1), (2, .int a2)]) hx hb dX3_seek_12 rfl hl (by decide) rfl (fun ls hl => ?_)
      refine lv_aload_n hx hb dX3_seek_13 rfl (lv_at hl 1 rfl) ?_
      obtain ⟨v17, ev17, hs⟩ := hs
      refine x_get (v := .int v17) X hK hI 3 7 rfl in_X3 rfl q224 rfl (xgi_spec ev17) dX3_seek_14 ?_
      refine lv_iconst (v := (-1)) hx hb dX3_seek_17 (by decide) ?_
      obtain ⟨k29_17, hk29_17, hs⟩ := jn_ex hs
      have Ek29_17 : ∀ (H : Heap) (locs : List Loc) (ls : Array Slot), k29_17 → xI D dT A s.heap C14 H locs → lv_has ls 4 [(0, .ref a0), (3, .int r15)] → W p l e (xRm (n + 1 + 3) (60 * (n + 1) + 300) 0 0) s m args below meth c H locs 0 0 (MQ below (xQv D dT K A) args s 0 0 A) (F0 m 29 ls []) := by
        intro H locs ls hs hI hl
        rw [hk29_17] at hs
        refine lv_aload_n hx hb dX3_seek_29 rfl (lv_at hl 0 rfl) ?_
        refine lv_iload_n hx hb dX3_seek_30 rfl (lv_at hl 1 rfl) ?_
        obtain ⟨C18, eC18, hs⟩ := hs
        refine x_put X hK hI 3 7 rfl in_X3 tyX3 tyX3_ok nmX3 rfl q224 rfl rfl rfl rfl eC18 dX3_seek_31 (fun H locs hI => ?_)
        refine lv_aload_n hx hb dX3_seek_34 rfl (lv_at hl 0 rfl) ?_
        obtain ⟨ad19, ead19, hs⟩ := hs
        refine x_get (v := .ref ad19) X hK hI 3 1 rfl in_X3 rfl q217 rfl (xgr_spec ead19) dX3_seek_35 ?_
        refine lv_iconst (v := 0) hx hb dX3_seek_38 (by decide) ?_
        refine lv_aload_n hx hb dX3_seek_39 rfl (lv_at hl 0 rfl) ?_
        obtain ⟨ad20, ead20, hs⟩ := hs
        refine x_get (v := .ref ad20) X hK hI 3 2 rfl in_X3 rfl q218 rfl (xgr_spec ead20) dX3_seek_40 ?_
        refine lv_iconst (v := 0) hx hb dX3_seek_43 (by decide) ?_
        refine lv_aload_n hx hb dX3_seek_44 rfl (lv_at hl 0 rfl) ?_
        obtain ⟨v21, ev21, hs⟩ := hs
        refine x_get (v := .int v21) X hK hI 3 6 rfl in_X3 rfl q223 rfl (xgi_spec ev21) dX3_seek_45 ?_
        refine x_cpi 0 (Or.inl rfl) (rest := []) X hK hI q1271 hs hl.1 (show 1 ≤ n + 4 by omega) (Nat.le_trans (m := 200) (Nat.le_of_ble_eq_true rfl) (show 200 ≤ 60 * (n + 1) + 300 by omega)) dX3_seek_48 (fun C22 H locs hs9 hI => ?_)
        replace hs := hs9
        exact x_retv X hK hI hs (Nat.le_of_ble_eq_true rfl) (Nat.le_of_ble_eq_true rfl) dX3_seek_51
      refine lv_icmp_eq (tgt := 29) hx hb dX3_seek_18 (by decide) (fun c24 => ?_) (fun c24 => ?_)
      · replace hs := ifp c24 hs
        exact Ek29_17 _ _ _ hs hI (lv_sub hl [1, 0] rfl)
      · replace hs := ifn c24 hs
        refine lv_iload_n hx hb dX3_seek_21 rfl (lv_at hl 0 rfl) ?_
        refine lv_aload_n hx hb dX3_seek_22 rfl (lv_at hl 1 rfl) ?_
        obtain ⟨v23, ev23, hs⟩ := hs
        refine x_get (v := .int v23) X hK hI 3 7 rfl in_X3 rfl q224 rfl (xgi_spec ev23) dX3_seek_23 ?_
        refine lv_icmp_ge (tgt := 51) hx hb dX3_seek_26 (by decide) (fun c23 => ?_) (fun c23 => ?_)
        · replace hs := ifp c23 hs
          exact x_retv X hK hI hs (Nat.le_of_ble_eq_true rfl) (Nat.le_of_ble_eq_true rfl) dX3_seek_51
        · replace hs := ifn c23 hs
          exact Ek29_17 _ _ _ hs hI (lv_sub hl [1, 0] rfl)
def x_X3_of_l32 (a0 : Nat) (x9 : Int32) (k88_12 : XH → Prop) : Nat → Int32 → XH → Prop
  | 0, _, _ => False
  | n32_15 + 1, x14, C15 => obd (xgr C15 (xis 3) a0 4) (fun ad17 => obd (xgi C15 (xis 4) ad17 1) (fun v18 => (if v18 ≤ x14 then k88_12 C15 else obd (xgr C15 (xis 3) a0 0) (fun ad19 => obd (xar C15 6 ad19 x9) (fun ad20 => obd (xgr C15 (xis 3) a0 3) (fun ad21 => obd (xgr C15 (xis 3) a0 4) (fun ad22 => obd (xgr C15 (xis 3) a0 4) (fun ad23 => obd (xgr C15 (xis 4) ad23 6) (fun ad24 => obd (xar C15 7 ad24 x9) (fun ad25 => (xcl C15 ad21 = some 2 ∧ x_X2_ofKind ad21 ad22 ad25 x9 x14 C15 (fun ad27 C26 => (xcl C26 ad27 = some 2 ∧ x_X2_comesIn ad27 C26 (fun r30 C29 => obd (xsi C29 ad20 x14 r30) (fun C32 => x_X3_of_l32 a0 x9 k88_12 n32_15 (x14 + 1) C32)))))))))))))))
theorem x_X3_of_l32_s (a0 : Nat) (x9 : Int32) (k88_12 : XH → Prop) (n32_15 : Nat) (x14 : Int32) (C15 : XH) : x_X3_of_l32 a0 x9 k88_12 (n32_15 + 1) x14 C15 = (obd (xgr C15 (xis 3) a0 4) (fun ad17 => obd (xgi C15 (xis 4) ad17 1) (fun v18 => (if v18 ≤ x14 then k88_12 C15 else obd (xgr C15 (xis 3) a0 0) (fun ad19 => obd (xar C15 6 ad19 x9) (fun ad20 => obd (xgr C15 (xis 3) a0 3) (fun ad21 => obd (xgr C15 (xis 3) a0 4) (fun ad22 => obd (xgr C15 (xis 3) a0 4) (fun ad23 => obd (xgr C15 (xis 4) ad23 6) (fun ad24 => obd (xar C15 7 ad24 x9) (fun ad25 => (xcl C15 ad21 = some 2 ∧ x_X2_ofKind ad21 ad22 ad25 x9 x14 C15 (fun ad27 C26 => (xcl C26 ad27 = some 2 ∧ x_X2_comesIn ad27 C26 (fun r30 C29 => obd (xsi C29 ad20 x14 r30) (fun C32 => x_X3_of_l32 a0 x9 k88_12 n32_15 (x14 + 1) C32)))))))))))))))) := rfl
def x_X3_of_l23 (a0 : Nat) (a3 : Int32) (k94_5 : XH → Prop) : Nat → Int32 → XH → Prop
  | 0, _, _ => False
  | n23_10 + 1, x9, C10 => (if a3 ≤ x9 then k94_5 C10 else jn (fun (C12 : XH) => x_X3_of_l23 a0 a3 k94_5 n23_10 (x9 + 1) C12) (fun k88_12 => x_X3_of_l32 a0 x9 k88_12 NF 0 C10))
theorem x_X3_of_l23_s (a0 : Nat) (a3 : Int32) (k94_5 : XH → Prop) (n23_10 : Nat) (x9 : Int32) (C10 : XH) : x_X3_of_l23 a0 a3 k94_5 (n23_10 + 1) x9 C10 = ((if a3 ≤ x9 then k94_5 C10 else jn (fun (C12 : XH) => x_X3_of_l23 a0 a3 k94_5 n23_10 (x9 + 1) C12) (fun k88_12 => x_X3_of_l32 a0 x9 k88_12 NF 0 C10))) := rfl
def x_X3_of (a0 : Nat) (a1 : Nat) (a2 : Int32) (a3 : Int32) (C : XH) (K : Nat → XH → Prop) : Prop := obd (xpv C (xis 3) a0 4 (.ref a1)) (fun C1 => obd (xpv C1 (xis 3) a0 5 (.int a2)) (fun C2 => obd (xpv C2 (xis 3) a0 6 (.int a3)) (fun C3 => obd (xpv C3 (xis 3) a0 7 (.int (-1))) (fun C4 => jn (fun (C5 : XH) => (xcl C5 a0 = some 3 ∧ x_X3_seek 7 a0 0 0 C5 (fun C7 => K a0 C7))) (fun k94_5 => x_X3_of_l23 a0 a3 k94_5 NF 0 C4)))))
theorem iX3_of : xInf yX3_of cX3_of 6 (some (.object RX3)) 3 := ⟨q1258, by decide +kernel⟩
set_option maxHeartbeats 4000000 in
theorem xet_X3_of (l : Launch) (a0 : Nat) (a1 : Nat) (a2 : Int32) (a3 : Int32) (C : XH) (K : Nat → XH → Prop) (hs : x_X3_of a0 a1 a2 a3 C K) : xMetr l yX3_of (ws_ yX3_of cX3_of 6 (some (.object RX3))) 11 743 0 0 C [.ref a0, .ref a1, .int a2, .int a3] K := by
  intro D dT adK adV sz
  refine xEnter (own := RX3) (Qc := xQr D dT K) (by decide) rfl (by rfl) ?_
  intro p e s m args below meth c A ls X hnm hK hA hG hI hl
  have hx := X.1
  have hb := X.2.1
  have hts := X.2.2.2.2.1
  have hown := X.2.2.2.2.2.1
  have hl : lv_has ls 6 [(0, .ref a0), (1, .ref a1), (2, .int a2), (3, .int a3)] := hl
  unfold x_X3_of at hs
  refine lv_aload_n hx hb dX3_of_0 rfl (lv_at hl 0 rfl) ?_
  refine lv_aload_n hx hb dX3_of_1 rfl (lv_at hl 1 rfl) ?_
  obtain ⟨C1, eC1, hs⟩ := hs
  refine x_put X hK hI 3 4 rfl in_X3 tyX3 tyX3_ok nmX3 rfl q221 rfl rfl rfl rfl eC1 dX3_of_2 (fun H locs hI => ?_)
  refine lv_aload_n hx hb dX3_of_5 rfl (lv_at hl 0 rfl) ?_
  refine lv_iload_n hx hb dX3_of_6 rfl (lv_at hl 2 rfl) ?_
  obtain ⟨C2, eC2, hs⟩ := hs
  refine x_put X hK hI 3 5 rfl in_X3 tyX3 tyX3_ok nmX3 rfl q222 rfl rfl rfl rfl eC2 dX3_of_7 (fun H locs hI => ?_)
  refine lv_aload_n hx hb dX3_of_10 rfl (lv_at hl 0 rfl) ?_
  refine lv_iload_n hx hb dX3_of_11 rfl (lv_at hl 3 rfl) ?_
  obtain ⟨C3, eC3, hs⟩ := hs
  refine x_put X hK hI 3 6 rfl in_X3 tyX3 tyX3_ok nmX3 rfl q223 rfl rfl rfl rfl eC3 dX3_of_12 (fun H locs hI => ?_)
  refine lv_aload_n hx hb dX3_of_15 rfl (lv_at hl 0 rfl) ?_
  refine lv_iconst (v := (-1)) hx hb dX3_of_16 (by decide) ?_
  obtain ⟨C4, eC4, hs⟩ := hs
  refine x_put X hK hI 3 7 rfl in_X3 tyX3 tyX3_ok nmX3 rfl q224 rfl rfl rfl rfl eC4 dX3_of_17 (fun H locs hI => ?_)
  refine lv_iconst (v := 0) hx hb dX3_of_20 (by decide) ?_
  refine lv_istore (lv' := [(4, .int 0), (0, .ref a0), (1, .ref a1), (2, .int a2), (3, .int a3)]) hx hb dX3_of_21 hl (by decide) rfl (fun ls hl => ?_)
  obtain ⟨k94_5, hk94_5, hs⟩ := jn_ex hs
  have Ek94_5 : ∀ (C5 : XH) (H : Heap) (locs : List Loc) (ls : Array Slot), k94_5 C5 → xI D dT A s.heap C5 H locs → lv_has ls 6 [(0, .ref a0)] → W p l e (xRm 11 743 0 0) s m args below meth c H locs 0 0 (MQ below (xQr D dT K A) args s 0 0 A) (F0 m 94 ls []) := by
    intro C5 H locs ls hs hI hl
    rw [hk94_5] at hs
    refine lv_aload_n hx hb dX3_of_94 rfl (lv_at hl 0 rfl) ?_
    refine lv_iconst (v := 0) hx hb dX3_of_95 (by decide) ?_
    refine lv_iconst (v := 0) hx hb dX3_of_96 (by decide) ?_
    obtain ⟨h7, hs⟩ := hs
    obtain ⟨fh7, h7⟩ := xcl_spec h7
    refine x_gov hA hI (x_runV (As := [.int 0, .int 0]) (rest := []) X hK hA hG hI h7 (q := (RX3, TX3, 8)) rfl rfl (xet_X3_seek l 7 a0 0 0 _ _ hs) iX3_seek q1261 q1263 qs32 q97 ⟨(Nat.le_of_ble_eq_true rfl), (Nat.le_of_ble_eq_true rfl)⟩ rfl hl.1 rfl (Nat.le_of_ble_eq_true rfl) dX3_of_97 ⟨(Nat.le_of_ble_eq_true rfl), (Nat.le_of_ble_eq_true rfl)⟩) (fun C7 H locs hs9 hI => ?_)
    replace hs := hs9
    refine lv_aload_n hx hb dX3_of_100 rfl (lv_at hl 0 rfl) ?_
    exact x_retr X hK hI hs (Nat.le_of_ble_eq_true rfl) (Nat.le_of_ble_eq_true rfl) dX3_of_101
  have Lx_X3_of_l23 : ∀ (n23_10 : Nat) (x9 : Int32) (C10 : XH) (H : Heap) (locs : List Loc) (ls : Array Slot), x_X3_of_l23 a0 a3 k94_5 n23_10 x9 C10 → xI D dT A s.heap C10 H locs → lv_has ls 6 [(0, .ref a0), (3, .int a3), (4, .int x9)] → W p l e (xRm 11 743 0 0) s m args below meth c H locs 0 0 (MQ below (xQr D dT K A) args s 0 0 A) (F0 m 23 ls []) := by
    intro n23_10
    induction n23_10 with
    | zero =>
      intro x9 C10 H locs ls hs
      exact False.elim hs
    | succ n23_10 ihx_X3_of_l23 =>
      intro x9 C10 H locs ls hs hI hl
      rw [x_X3_of_l23_s] at hs
      refine lv_iload hx hb dX3_of_23 (lv_at hl 2 rfl) ?_
      refine lv_iload_n hx hb dX3_of_25 rfl (lv_at hl 1 rfl) ?_
      refine lv_icmp_ge (tgt := 94) hx hb dX3_of_26 (by decide) (fun c33 => ?_) (fun c33 => ?_)
      · replace hs := ifp c33 hs
        exact Ek94_5 _ _ _ _ hs hI (lv_sub hl [0] rfl)
      · replace hs := ifn c33 hs
        refine lv_iconst (v := 0) hx hb dX3_of_29 (by decide) ?_
        refine lv_istore (lv' := [(5, .int 0), (0, .ref a0), (3, .int a3), (4, .int x9)]) hx hb dX3_of_30 hl (by decide) rfl (fun ls hl => ?_)
        obtain ⟨k88_12, hk88_12, hs⟩ := jn_ex hs
        have Ek88_12 : ∀ (C12 : XH) (H : Heap) (locs : List Loc) (ls : Array Slot), k88_12 C12 → xI D dT A s.heap C12 H locs → lv_has ls 6 [(0, .ref a0), (3, .int a3), (4, .int x9)] → W p l e (xRm 11 743 0 0) s m args below meth c H locs 0 0 (MQ below (xQr D dT K A) args s 0 0 A) (F0 m 88 ls []) := by
          intro C12 H locs ls hs hI hl
          rw [hk88_12] at hs
          refine lv_iinc (v := (x9 + 1)) (lv' := [(4, .int (x9 + 1)), (0, .ref a0), (3, .int a3)]) hx hb dX3_of_88 hl (k := 2) rfl (congrArg (fun z => x9 + z) (show Int32.ofInt (1) = 1 by decide)) (by decide) rfl (fun ls hl => ?_)
          refine lv_goto (tgt := 23) hx hb dX3_of_91 (by decide) ?_
          exact ihx_X3_of_l23 _ _ _ _ _ hs hI (lv_sub hl [1, 2, 0] rfl)
        have Lx_X3_of_l32 : ∀ (n32_15 : Nat) (x14 : Int32) (C15 : XH) (H : Heap) (locs : List Loc) (ls : Array Slot), x_X3_of_l32 a0 x9 k88_12 n32_15 x14 C15 → xI D dT A s.heap C15 H locs → lv_has ls 6 [(0, .ref a0), (3, .int a3), (4, .int x9), (5, .int x14)] → W p l e (xRm 11 743 0 0) s m args below meth c H locs 0 0 (MQ below (xQr D dT K A) args s 0 0 A) (F0 m 32 ls []) := by
          intro n32_15
          induction n32_15 with
          | zero =>
            intro x14 C15 H locs ls hs
            exact False.elim hs
          | succ n32_15 ihx_X3_of_l32 =>
            intro x14 C15 H locs ls hs hI hl
            rw [x_X3_of_l32_s] at hs
            refine lv_iload hx hb dX3_of_32 (lv_at hl 3 rfl) ?_
            refine lv_aload_n hx hb dX3_of_34 rfl (lv_at hl 0 rfl) ?_
            obtain ⟨ad17, ead17, hs⟩ := hs
            refine x_get (v := .ref ad17) X hK hI 3 4 rfl in_X3 rfl q221 rfl (xgr_spec ead17) dX3_of_35 ?_
            obtain ⟨v18, ev18, hs⟩ := hs
            refine x_get (v := .int v18) X hK hI 4 1 rfl in_X4 rfl q255 rfl (xgi_spec ev18) dX3_of_38 ?_
            refine lv_icmp_ge (tgt := 88) hx hb dX3_of_41 (by decide) (fun c32 => ?_) (fun c32 => ?_)
            · replace hs := ifp c32 hs
              exact Ek88_12 _ _ _ _ hs hI (lv_sub hl [0, 1, 2] rfl)
            · replace hs := ifn c32 hs
              refine lv_aload_n hx hb dX3_of_44 rfl (lv_at hl 0 rfl) ?_
              obtain ⟨ad19, ead19, hs⟩ := hs
              refine x_get (v := .ref ad19) X hK hI 3 0 rfl in_X3 rfl q216 rfl (xgr_spec ead19) dX3_of_45 ?_
              refine lv_iload hx hb dX3_of_48 (lv_at hl 2 rfl) ?_
              obtain ⟨ad20, ead20, hs⟩ := hs
              refine x_aald X hK hI 6 rfl rfl ead20 dX3_of_50 ?_
              refine lv_iload hx hb dX3_of_51 (lv_at hl 3 rfl) ?_
              refine lv_aload_n hx hb dX3_of_53 rfl (lv_at hl 0 rfl) ?_
              obtain ⟨ad21, ead21, hs⟩ := hs
              refine x_get (v := .ref ad21) X hK hI 3 3 rfl in_X3 rfl q220 rfl (xgr_spec ead21) dX3_of_54 ?_
              refine lv_aload_n hx hb dX3_of_57 rfl (lv_at hl 0 rfl) ?_
              obtain ⟨ad22, ead22, hs⟩ := hs
              refine x_get (v := .ref ad22) X hK hI 3 4 rfl in_X3 rfl q221 rfl (xgr_spec ead22) dX3_of_58 ?_
              refine lv_aload_n hx hb dX3_of_61 rfl (lv_at hl 0 rfl) ?_
              obtain ⟨ad23, ead23, hs⟩ := hs
              refine x_get (v := .ref ad23) X hK hI 3 4 rfl in_X3 rfl q221 rfl (xgr_spec ead23) dX3_of_62 ?_
              obtain ⟨ad24, ead24, hs⟩ := hs
              refine x_get (v := .ref ad24) X hK hI 4 6 rfl in_X4 rfl q271 rfl (xgr_spec ead24) dX3_of_65 ?_
              refine lv_iload hx hb dX3_of_68 (lv_at hl 2 rfl) ?_
              obtain ⟨ad25, ead25, hs⟩ := hs
              refine x_aald X hK hI 7 rfl rfl ead25 dX3_of_70 ?_
              refine lv_iload hx hb dX3_of_71 (lv_at hl 2 rfl) ?_
              refine lv_iload hx hb dX3_of_73 (lv_at hl 3 rfl) ?_
              obtain ⟨h27, hs⟩ := hs
              obtain ⟨fh27, h27⟩ := xcl_spec h27
              refine x_gor hA hI (x_runV (As := [.ref ad22, .ref ad25, .int x9, .int x14]) (rest := [.int x14, .ref ad20]) X hK hA hG hI h27 (q := (RX2, TX2, 12)) rfl rfl (xet_X2_ofKind l ad21 ad22 ad25 x9 x14 _ _ hs) iX2_ofKind q1259 q1141 q1142 q96 ⟨(Nat.le_of_ble_eq_true rfl), (Nat.le_of_ble_eq_true rfl)⟩ rfl hl.1 rfl (Nat.le_of_ble_eq_true rfl) dX3_of_75 ⟨(Nat.le_of_ble_eq_true rfl), (Nat.le_of_ble_eq_true rfl)⟩) (fun ad27 C26 H locs hs9 hI => ?_)
              replace hs := hs9
              obtain ⟨h30, hs⟩ := hs
              obtain ⟨fh30, h30⟩ := xcl_spec h30
              refine x_goi hA hI (x_runV (As := []) (rest := [.int x14, .ref ad20]) X hK hA hG hI h30 (q := (RX2, TX2, 12)) rfl rfl (xet_X2_comesIn l ad27 _ _ hs) iX2_comesIn q1260 q1198 q1199 q96 ⟨(Nat.le_of_ble_eq_true rfl), (Nat.le_of_ble_eq_true rfl)⟩ rfl hl.1 rfl (Nat.le_of_ble_eq_true rfl) dX3_of_78 ⟨(Nat.le_of_ble_eq_true rfl), (Nat.le_of_ble_eq_true rfl)⟩) (fun r30 C29 H locs hs9 hI => ?_)
              replace hs := hs9
              obtain ⟨C32, eC32, hs⟩ := hs
              refine x_iast X hK hI eC32 dX3_of_81 (fun H locs hI => ?_)
              refine lv_iinc (v := (x14 + 1)) (lv' := [(5, .int (x14 + 1)), (0, .ref a0), (3, .int a3), (4, .int x9)]) hx hb dX3_of_82 hl (k := 3) rfl (congrArg (fun z => x14 + z) (show Int32.ofInt (1) = 1 by decide)) (by decide) rfl (fun ls hl => ?_)
              refine lv_goto (tgt := 32) hx hb dX3_of_85 (by decide) ?_
              exact ihx_X3_of_l32 _ _ _ _ _ hs hI (lv_sub hl [1, 2, 3, 0] rfl)
        exact Lx_X3_of_l32 NF _ _ _ _ _ hs hI (lv_sub hl [1, 2, 3, 0] rfl)
  exact Lx_X3_of_l23 NF _ _ _ _ _ hs hI (lv_sub hl [1, 4, 0] rfl)
