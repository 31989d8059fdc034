set_option maxRecDepth 100000
def x_X2_passesDrawn (a0 : Nat) (C : XH) (K : XH → Prop) : Prop := obd (xgi C (xis 2) a0 11) (fun v1 => obd (xpv C (xis 2) a0 11 (.int (v1 + 1))) (fun C2 => obd (xgi C2 (xis 2) a0 8) (fun v3 => (if v3 ≤ 0 then obd (xgr C2 (xis 2) a0 0) (fun ad4 => (xcl C2 ad4 = some 4 ∧ x_X4_draw ad4 100 C2 (fun r6 C5 => (xcl C5 a0 = some 2 ∧ x_X2_riskNow a0 C5 (fun r9 C8 => jn (fun (v11 : Int32) => (xcl C8 a0 = some 2 ∧ x_X2_puffs a0 C8 (fun C12 => (xcl C12 a0 = some 2 ∧ x_X2_goes a0 v11 C12 (fun C14 => K C14))))) (fun k43_11 => (if r9 ≤ r6 then k43_11 0 else k43_11 1))))))) else (xcl C2 a0 = some 2 ∧ x_X2_lies a0 C2 (fun C17 => K C17))))))
theorem iX2_passesDrawn : xInf yX2_passesDrawn cX2_passesDrawn 2 none 0 := ⟨q1353, by decide +kernel⟩
set_option maxHeartbeats 4000000 in
theorem xet_X2_passesDrawn (l : Launch) (a0 : Nat) (C : XH) (K : XH → Prop) (hs : x_X2_passesDrawn a0 C K) : xMetv l yX2_passesDrawn (ws_ yX2_passesDrawn cX2_passesDrawn 2 none) 3 65 0 0 C [.ref a0] K := by
  intro D dT adK adV sz
  refine xEnter (own := RX2) (Qc := xQv D dT K) (by decide) rfl (by rfl) ?_
  intro p e s m args below meth c A ls X hnm hK hA hG hI hl
  have hx := X.1
  have hb := X.2.1
  have hts := X.2.2.2.2.1
  have hown := X.2.2.2.2.2.1
  have hl : lv_has ls 2 [(0, .ref a0)] := hl
  unfold x_X2_passesDrawn at hs
  refine lv_aload_n hx hb dX2_passesDrawn_0 rfl (lv_at hl 0 rfl) ?_
  refine lv_dup hx hb dX2_passesDrawn_1 rfl ?_
  obtain ⟨v1, ev1, hs⟩ := hs
  refine x_get (v := .int v1) X hK hI 2 11 rfl in_X2 rfl q179 rfl (xgi_spec ev1) dX2_passesDrawn_2 ?_
  refine lv_iconst (v := 1) hx hb dX2_passesDrawn_5 (by decide) ?_
  refine lv_iadd hx hb dX2_passesDrawn_6 ?_
  obtain ⟨C2, eC2, hs⟩ := hs
  refine x_put X hK hI 2 11 rfl in_X2 tyX2 tyX2_ok nmX2 rfl q179 rfl rfl rfl rfl eC2 dX2_passesDrawn_7 (fun H locs hI => ?_)
  refine lv_aload_n hx hb dX2_passesDrawn_10 rfl (lv_at hl 0 rfl) ?_
  obtain ⟨v3, ev3, hs⟩ := hs
  refine x_get (v := .int v3) X hK hI 2 8 rfl in_X2 rfl q173 rfl (xgi_spec ev3) dX2_passesDrawn_11 ?_
  refine lv_if_le (tgt := 22) hx hb dX2_passesDrawn_14 (by decide) (fun c18 => ?_) (fun c18 => ?_)
  · replace hs := ifp c18 hs
    refine lv_aload_n hx hb dX2_passesDrawn_22 rfl (lv_at hl 0 rfl) ?_
    obtain ⟨ad4, ead4, hs⟩ := hs
    refine x_get (v := .ref ad4) X hK hI 2 0 rfl in_X2 rfl q162 rfl (xgr_spec ead4) dX2_passesDrawn_23 ?_
    refine lv_bipush (v := 100) hx hb dX2_passesDrawn_26 (by decide) ?_
    obtain ⟨h6, hs⟩ := hs
    obtain ⟨fh6, h6⟩ := xcl_spec h6
    refine x_goi hA hI (x_runV (As := [.int 100]) (rest := []) X hK hA hG hI h6 (q := (RX4, TX4, 13)) rfl rfl (xet_X4_draw l ad4 100 _ _ hs) iX4_draw q1354 q1355 q1356 q98 ⟨(Nat.le_of_ble_eq_true rfl), (Nat.le_of_ble_eq_true rfl)⟩ rfl hl.1 rfl (Nat.le_of_ble_eq_true rfl) dX2_passesDrawn_28 ⟨(Nat.le_of_ble_eq_true rfl), (Nat.le_of_ble_eq_true rfl)⟩) (fun r6 C5 H locs hs9 hI => ?_)
    replace hs := hs9
    refine lv_aload_n hx hb dX2_passesDrawn_31 rfl (lv_at hl 0 rfl) ?_
    obtain ⟨h9, hs⟩ := hs
    obtain ⟨fh9, h9⟩ := xcl_spec h9
    refine x_goi hA hI (x_runV (As := []) (rest := [.int r6]) X hK hA hG hI h9 (q := (RX2, TX2, 12)) rfl rfl (xet_X2_riskNow l a0 _ _ hs) iX2_riskNow q1177 q1179 qs20 q96 ⟨(Nat.le_of_ble_eq_true rfl), (Nat.le_of_ble_eq_true rfl)⟩ rfl hl.1 rfl (Nat.le_of_ble_eq_true rfl) dX2_passesDrawn_32 ⟨(Nat.le_of_ble_eq_true rfl), (Nat.le_of_ble_eq_true rfl)⟩) (fun r9 C8 H locs hs9 hI => ?_)
    replace hs := hs9
    obtain ⟨k43_11, hk43_11, hs⟩ := jn_ex hs
    have Ek43_11 : ∀ (v11 : Int32) (H : Heap) (locs : List Loc) (ls : Array Slot), k43_11 v11 → xI D dT A s.heap C8 H locs → lv_has ls 2 [(0, .ref a0)] → W p l e (xRm 3 65 0 0) s m args below meth c H locs 0 0 (MQ below (xQv D dT K A) args s 0 0 A) (F0 m 43 ls [.int v11]) := by
      intro v11 H locs ls hs hI hl
      rw [hk43_11] at hs
      refine lv_istore_n (lv' := [(1, .int v11), (0, .ref a0)]) hx hb dX2_passesDrawn_43 rfl hl (by decide) rfl (fun ls hl => ?_)
      refine lv_aload_n hx hb dX2_passesDrawn_44 rfl (lv_at hl 1 rfl) ?_
      obtain ⟨h12, hs⟩ := hs
      obtain ⟨fh12, h12⟩ := xcl_spec h12
      refine x_gov hA hI (x_runV (As := []) (rest := []) X hK hA hG hI h12 (q := (RX2, TX2, 12)) rfl rfl (xet_X2_puffs l a0 _ _ hs) iX2_puffs q1181 q1183 qs21 q96 ⟨(Nat.le_of_ble_eq_true rfl), (Nat.le_of_ble_eq_true rfl)⟩ rfl hl.1 rfl (Nat.le_of_ble_eq_true rfl) dX2_passesDrawn_45 ⟨(Nat.le_of_ble_eq_true rfl), (Nat.le_of_ble_eq_true rfl)⟩) (fun C12 H locs hs9 hI => ?_)
      replace hs := hs9
      refine lv_aload_n hx hb dX2_passesDrawn_48 rfl (lv_at hl 1 rfl) ?_
      refine lv_iload_n hx hb dX2_passesDrawn_49 rfl (lv_at hl 0 rfl) ?_
      obtain ⟨h14, hs⟩ := hs
      obtain ⟨fh14, h14⟩ := xcl_spec h14
      refine x_gov hA hI (x_runV (As := [.int v11]) (rest := []) X hK hA hG hI h14 (q := (RX2, TX2, 12)) rfl rfl (xet_X2_goes l a0 v11 _ _ hs) iX2_goes q1185 q1187 qs22 q96 ⟨(Nat.le_of_ble_eq_true rfl), (Nat.le_of_ble_eq_true rfl)⟩ rfl hl.1 rfl (Nat.le_of_ble_eq_true rfl) dX2_passesDrawn_50 ⟨(Nat.le_of_ble_eq_true rfl), (Nat.le_of_ble_eq_true rfl)⟩) (fun C14 H locs hs9 hI => ?_)
      replace hs := hs9
      exact x_retv X hK hI hs (Nat.le_of_ble_eq_true rfl) (Nat.le_of_ble_eq_true rfl) dX2_passesDrawn_53
    refine lv_icmp_ge (tgt := 42) hx hb dX2_passesDrawn_35 (by decide) (fun c15 => ?_) (fun c15 => ?_)
    · replace hs := ifp c15 hs
      refine lv_iconst (v := 0) hx hb dX2_passesDrawn_42 (by decide) ?_
      exact Ek43_11 _ _ _ _ hs hI hl
    · replace hs := ifn c15 hs
      refine lv_iconst (v := 1) hx hb dX2_passesDrawn_38 (by decide) ?_
      refine lv_goto (tgt := 43) hx hb dX2_passesDrawn_39 (by decide) ?_
      exact Ek43_11 _ _ _ _ hs hI hl
  · replace hs := ifn c18 hs
    refine lv_aload_n hx hb dX2_passesDrawn_17 rfl (lv_at hl 0 rfl) ?_
    obtain ⟨h17, hs⟩ := hs
    obtain ⟨fh17, h17⟩ := xcl_spec h17
    refine x_gov hA hI (x_runV (As := []) (rest := []) X hK hA hG hI h17 (q := (RX2, TX2, 12)) rfl rfl (xet_X2_lies l a0 _ _ hs) iX2_lies q1166 q1168 qs18 q96 ⟨(Nat.le_of_ble_eq_true rfl), (Nat.le_of_ble_eq_true rfl)⟩ rfl hl.1 rfl (Nat.le_of_ble_eq_true rfl) dX2_passesDrawn_18 ⟨(Nat.le_of_ble_eq_true rfl), (Nat.le_of_ble_eq_true rfl)⟩) (fun C17 H locs hs9 hI => ?_)
    replace hs := hs9
    exact x_retv X hK hI hs (Nat.le_of_ble_eq_true rfl) (Nat.le_of_ble_eq_true rfl) dX2_passesDrawn_21
def x_X0_goesRace_l108 (a0 : Nat) (k162_6 : Int32 → XH → Prop) : Nat → Int32 → Int32 → Int32 → XH → Prop
  | 0, _, _, _, _ => False
  | n108_19 + 1, x16, x17, x18, C19 => obd (xgr C19 (xis 0) a0 7) (fun ad21 => obd (xgi C19 (xis 4) ad21 0) (fun v22 => (if v22 ≤ x18 then k162_6 x16 C19 else obd (xgr C19 (xis 0) a0 4) (fun ad23 => obd (xar C19 5 ad23 x18) (fun ad24 => (xcl C19 ad24 = some 2 ∧ x_X2_time ad24 C19 (fun r26 C25 => jn (fun (v28 : Int32) => obd (xgr C25 (xis 0) a0 4) (fun ad29 => obd (xar C25 5 ad29 x18) (fun ad30 => (xcl C25 ad30 = some 2 ∧ x_X2_time ad30 C25 (fun r32 C31 => x_X0_goesRace_l108 a0 k162_6 n108_19 v28 (imin x17 r32) (x18 + 1) C31))))) (fun k140_28 => (if x17 ≤ r26 then k140_28 x16 else k140_28 x18)))))))))
theorem x_X0_goesRace_l108_s (a0 : Nat) (k162_6 : Int32 → XH → Prop) (n108_19 : Nat) (x16 : Int32) (x17 : Int32) (x18 : Int32) (C19 : XH) : x_X0_goesRace_l108 a0 k162_6 (n108_19 + 1) x16 x17 x18 C19 = (obd (xgr C19 (xis 0) a0 7) (fun ad21 => obd (xgi C19 (xis 4) ad21 0) (fun v22 => (if v22 ≤ x18 then k162_6 x16 C19 else obd (xgr C19 (xis 0) a0 4) (fun ad23 => obd (xar C19 5 ad23 x18) (fun ad24 => (xcl C19 ad24 = some 2 ∧ x_X2_time ad24 C19 (fun r26 C25 => jn (fun (v28 : Int32) => obd (xgr C25 (xis 0) a0 4) (fun ad29 => obd (xar C25 5 ad29 x18) (fun ad30 => (xcl C25 ad30 = some 2 ∧ x_X2_time ad30 C25 (fun r32 C31 => x_X0_goesRace_l108 a0 k162_6 n108_19 v28 (imin x17 r32) (x18 + 1) C31))))) (fun k140_28 => (if x17 ≤ r26 then k140_28 x16 else k140_28 x18)))))))))) := rfl
def x_X0_goesRace_l53 (a0 : Nat) (k93_41 : Int32 → XH → Prop) : Nat → Int32 → Int32 → XH → Prop
  | 0, _, _, _ => False
  | n53_45 + 1, x43, x44, C45 => obd (xgr C45 (xis 0) a0 7) (fun ad47 => obd (xgi C45 (xis 4) ad47 0) (fun v48 => (if v48 ≤ x44 then k93_41 x43 C45 else obd (xgr C45 (xis 0) a0 4) (fun ad49 => obd (xar C45 5 ad49 x44) (fun ad50 => (xcl C45 ad50 = some 2 ∧ x_X2_isThere ad50 C45 (fun r52 C51 => jn (fun (x54 : Int32) (C55 : XH) => x_X0_goesRace_l53 a0 k93_41 n53_45 x54 (x44 + 1) C55) (fun k87_55 => (if r52 = 0 then obd (xgr C51 (xis 0) a0 4) (fun ad56 => obd (xar C51 5 ad56 x44) (fun ad57 => (xcl C51 ad57 = some 2 ∧ x_X2_passesDrawn ad57 C51 (fun C58 => k87_55 1 C58)))) else k87_55 x43 C51)))))))))
theorem x_X0_goesRace_l53_s (a0 : Nat) (k93_41 : Int32 → XH → Prop) (n53_45 : Nat) (x43 : Int32) (x44 : Int32) (C45 : XH) : x_X0_goesRace_l53 a0 k93_41 (n53_45 + 1) x43 x44 C45 = (obd (xgr C45 (xis 0) a0 7) (fun ad47 => obd (xgi C45 (xis 4) ad47 0) (fun v48 => (if v48 ≤ x44 then k93_41 x43 C45 else obd (xgr C45 (xis 0) a0 4) (fun ad49 => obd (xar C45 5 ad49 x44) (fun ad50 => (xcl C45 ad50 = some 2 ∧ x_X2_isThere ad50 C45 (fun r52 C51 => jn (fun (x54 : Int32) (C55 : XH) => x_X0_goesRace_l53 a0 k93_41 n53_45 x54 (x44 + 1) C55) (fun k87_55 => (if r52 = 0 then obd (xgr C51 (xis 0) a0 4) (fun ad56 => obd (xar C51 5 ad56 x44) (fun ad57 => (xcl C51 ad57 = some 2 ∧ x_X2_passesDrawn ad57 C51 (fun C58 => k87_55 1 C58)))) else k87_55 x43 C51)))))))))) := rfl
def x_X0_goesRace_l38 (a0 : Nat) (k99_3 : XH → Prop) : Nat → Int32 → Int32 → XH → Prop
  | 0, _, _, _ => False
  | n38_38 + 1, x36, x37, C38 => (if 999 ≤ x37 then k99_3 C38 else (if x36 = 0 then k99_3 C38 else jn (fun (x40 : Int32) (C41 : XH) => x_X0_goesRace_l38 a0 k99_3 n38_38 x40 (x37 + 1) C41) (fun k93_41 => x_X0_goesRace_l53 a0 k93_41 NF 0 0 C38)))
theorem x_X0_goesRace_l38_s (a0 : Nat) (k99_3 : XH → Prop) (n38_38 : Nat) (x36 : Int32) (x37 : Int32) (C38 : XH) : x_X0_goesRace_l38 a0 k99_3 (n38_38 + 1) x36 x37 C38 = ((if 999 ≤ x37 then k99_3 C38 else (if x36 = 0 then k99_3 C38 else jn (fun (x40 : Int32) (C41 : XH) => x_X0_goesRace_l38 a0 k99_3 n38_38 x40 (x37 + 1) C41) (fun k93_41 => x_X0_goesRace_l53 a0 k93_41 NF 0 0 C38)))) := rfl
def x_X0_goesRace_l2 (a0 : Nat) (k34_1 : XH → Prop) : Nat → Int32 → XH → Prop
  | 0, _, _ => False
  | n2_65 + 1, x64, C65 => obd (xgr C65 (xis 0) a0 7) (fun ad67 => obd (xgi C65 (xis 4) ad67 0) (fun v68 => (if v68 ≤ x64 then k34_1 C65 else obd (xgr C65 (xis 0) a0 4) (fun ad69 => obd (xar C65 5 ad69 x64) (fun ad70 => obd (xgr C65 (xis 0) a0 7) (fun ad71 => (xcl C65 ad70 = some 2 ∧ x_X2_of ad70 ad71 x64 C65 (fun ad73 C72 => x_X0_goesRace_l2 a0 k34_1 n2_65 (x64 + 1) C72))))))))
theorem x_X0_goesRace_l2_s (a0 : Nat) (k34_1 : XH → Prop) (n2_65 : Nat) (x64 : Int32) (C65 : XH) : x_X0_goesRace_l2 a0 k34_1 (n2_65 + 1) x64 C65 = (obd (xgr C65 (xis 0) a0 7) (fun ad67 => obd (xgi C65 (xis 4) ad67 0) (fun v68 => (if v68 ≤ x64 then k34_1 C65 else obd (xgr C65 (xis 0) a0 4) (fun ad69 => obd (xar C65 5 ad69 x64) (fun ad70 => obd (xgr C65 (xis 0) a0 7) (fun ad71 => (xcl C65 ad70 = some 2 ∧ x_X2_of ad70 ad71 x64 C65 (fun ad73 C72 => x_X0_goesRace_l2 a0 k34_1 n2_65 (x64 + 1) C72))))))))) := rfl
def x_X0_goesRace (a0 : Nat) (C : XH) (K : Int32 → XH → Prop) : Prop := jn (fun (C1 : XH) => jn (fun (C3 : XH) => jn (fun (x5 : Int32) (C6 : XH) => obd (xgr C6 (xis 0) a0 7) (fun ad8 => obd (xgi C6 (xis 4) ad8 2) (fun v9 => obd (xpv C6 (xis 4) ad8 2 (.int (v9 + 1))) (fun C10 => (if x5 = (-1) then K x5 C10 else obd (xgr C10 (xis 0) a0 7) (fun ad11 => obd (xgr C10 (xis 4) ad11 10) (fun ad12 => obd (xai C10 0 ad12 x5) (fun v13 => obd (xsi C10 ad12 x5 (v13 + 1)) (fun C14 => K x5 C14))))))))) (fun k162_6 => x_X0_goesRace_l108 a0 k162_6 NF (-1) 999 0 C3)) (fun k99_3 => x_X0_goesRace_l38 a0 k99_3 NF 1 0 C1)) (fun k34_1 => x_X0_goesRace_l2 a0 k34_1 NF 0 C)
theorem iX0_goesRace : xInf yX0_goesRace cX0_goesRace 5 (some .int) 0 := ⟨q1348, by decide +kernel⟩
set_option maxHeartbeats 4000000 in
theorem xet_X0_goesRace (l : Launch) (a0 : Nat) (C : XH) (K : Int32 → XH → Prop) (hs : x_X0_goesRace a0 C K) : xMeti l yX0_goesRace (ws_ yX0_goesRace cX0_goesRace 5 (some .int)) 8 182 0 0 C [.ref a0] K := by
  intro D dT adK adV sz
  refine xEnter (own := RX0) (Qc := xQi D dT K) (by decide) rfl (by rfl) ?_
  intro p e s m args below meth c A ls X hnm hK hA hG hI hl
  have hx := X.1
  have hb := X.2.1
  have hts := X.2.2.2.2.1
  have hown := X.2.2.2.2.2.1
  have hl : lv_has ls 5 [(0, .ref a0)] := hl
  unfold x_X0_goesRace at hs
  refine lv_iconst (v := 0) hx hb dX0_goesRace_0 (by decide) ?_
  refine lv_istore_n (lv' := [(1, .int 0), (0, .ref a0)]) hx hb dX0_goesRace_1 rfl hl (by decide) rfl (fun ls hl => ?_)
  obtain ⟨k34_1, hk34_1, hs⟩ := jn_ex hs
  have Ek34_1 : ∀ (C1 : XH) (H : Heap) (locs : List Loc) (ls : Array Slot), k34_1 C1 → xI D dT A s.heap C1 H locs → lv_has ls 5 [(0, .ref a0)] → W p l e (xRm 8 182 0 0) s m args below meth c H locs 0 0 (MQ below (xQi D dT K A) args s 0 0 A) (F0 m 34 ls []) := by
    intro C1 H locs ls hs hI hl
    rw [hk34_1] at hs
    refine lv_iconst (v := 1) hx hb dX0_goesRace_34 (by decide) ?_
    refine lv_istore_n (lv' := [(1, .int 1), (0, .ref a0)]) hx hb dX0_goesRace_35 rfl hl (by decide) rfl (fun ls hl => ?_)
    refine lv_iconst (v := 0) hx hb dX0_goesRace_36 (by decide) ?_
    refine lv_istore_n (lv' := [(2, .int 0), (1, .int 1), (0, .ref a0)]) hx hb dX0_goesRace_37 rfl hl (by decide) rfl (fun ls hl => ?_)
    obtain ⟨k99_3, hk99_3, hs⟩ := jn_ex hs
    have Ek99_3 : ∀ (C3 : XH) (H : Heap) (locs : List Loc) (ls : Array Slot), k99_3 C3 → xI D dT A s.heap C3 H locs → lv_has ls 5 [(0, .ref a0)] → W p l e (xRm 8 182 0 0) s m args below meth c H locs 0 0 (MQ below (xQi D dT K A) args s 0 0 A) (F0 m 99 ls []) := by
      intro C3 H locs ls hs hI hl
      rw [hk99_3] at hs
      refine lv_iconst (v := (-1)) hx hb dX0_goesRace_99 (by decide) ?_
      refine lv_istore_n (lv' := [(2, .int (-1)), (0, .ref a0)]) hx hb dX0_goesRace_100 rfl hl (by decide) rfl (fun ls hl => ?_)
      refine lv_sipush (v := 999) hx hb dX0_goesRace_101 (by decide) ?_
      refine lv_istore_n (lv' := [(3, .int 999), (2, .int (-1)), (0, .ref a0)]) hx hb dX0_goesRace_104 rfl hl (by decide) rfl (fun ls hl => ?_)
      refine lv_iconst (v := 0) hx hb dX0_goesRace_105 (by decide) ?_
      refine lv_istore (lv' := [(4, .int 0), (3, .int 999), (2, .int (-1)), (0, .ref a0)]) hx hb dX0_goesRace_106 hl (by decide) rfl (fun ls hl => ?_)
      obtain ⟨k162_6, hk162_6, hs⟩ := jn_ex hs
      have Ek162_6 : ∀ (x5 : Int32) (C6 : XH) (H : Heap) (locs : List Loc) (ls : Array Slot), k162_6 x5 C6 → xI D dT A s.heap C6 H locs → lv_has ls 5 [(0, .ref a0), (2, .int x5)] → W p l e (xRm 8 182 0 0) s m args below meth c H locs 0 0 (MQ below (xQi D dT K A) args s 0 0 A) (F0 m 162 ls []) := by
        intro x5 C6 H locs ls hs hI hl
        rw [hk162_6] at hs
        refine lv_aload_n hx hb dX0_goesRace_162 rfl (lv_at hl 0 rfl) ?_
        obtain ⟨ad8, ead8, hs⟩ := hs
        refine x_get (v := .ref ad8) X hK hI 0 7 rfl in_X0 rfl q335 rfl (xgr_spec ead8) dX0_goesRace_163 ?_
        refine lv_dup hx hb dX0_goesRace_166 rfl ?_
        obtain ⟨v9, ev9, hs⟩ := hs
        refine x_get (v := .int v9) X hK hI 4 2 rfl in_X4 rfl q259 rfl (xgi_spec ev9) dX0_goesRace_167 ?_
        refine lv_iconst (v := 1) hx hb dX0_goesRace_170 (by decide) ?_
        refine lv_iadd hx hb dX0_goesRace_171 ?_
        obtain ⟨C10, eC10, hs⟩ := hs
        refine x_put X hK hI 4 2 rfl in_X4 tyX4 tyX4_ok nmX4 rfl q259 rfl rfl rfl rfl eC10 dX0_goesRace_172 (fun H locs hI => ?_)
        refine lv_iload_n hx hb dX0_goesRace_175 rfl (lv_at hl 1 rfl) ?_
        refine lv_iconst (v := (-1)) hx hb dX0_goesRace_176 (by decide) ?_
        refine lv_icmp_eq (tgt := 193) hx hb dX0_goesRace_177 (by decide) (fun c14 => ?_) (fun c14 => ?_)
        · replace hs := ifp c14 hs
          refine lv_iload_n hx hb dX0_goesRace_193 rfl (lv_at hl 1 rfl) ?_
          exact x_reti X hK hI hs (Nat.le_of_ble_eq_true rfl) (Nat.le_of_ble_eq_true rfl) dX0_goesRace_194
        · replace hs := ifn c14 hs
          refine lv_aload_n hx hb dX0_goesRace_180 rfl (lv_at hl 0 rfl) ?_
          obtain ⟨ad11, ead11, hs⟩ := hs
          refine x_get (v := .ref ad11) X hK hI 0 7 rfl in_X0 rfl q335 rfl (xgr_spec ead11) dX0_goesRace_181 ?_
          obtain ⟨ad12, ead12, hs⟩ := hs
          refine x_get (v := .ref ad12) X hK hI 4 10 rfl in_X4 rfl q286 rfl (xgr_spec ead12) dX0_goesRace_184 ?_
          refine lv_iload_n hx hb dX0_goesRace_187 rfl (lv_at hl 1 rfl) ?_
          refine lv_dup2_11 hx hb dX0_goesRace_188 rfl rfl ?_
          obtain ⟨v13, ev13, hs⟩ := hs
          refine x_iald X hK hI ev13 dX0_goesRace_189 ?_
          refine lv_iconst (v := 1) hx hb dX0_goesRace_190 (by decide) ?_
          refine lv_iadd hx hb dX0_goesRace_191 ?_
          obtain ⟨C14, eC14, hs⟩ := hs
          refine x_iast X hK hI eC14 dX0_goesRace_192 (fun H locs hI => ?_)
          refine lv_iload_n hx hb dX0_goesRace_193 rfl (lv_at hl 1 rfl) ?_
          exact x_reti X hK hI hs (Nat.le_of_ble_eq_true rfl) (Nat.le_of_ble_eq_true rfl) dX0_goesRace_194
      have Lx_X0_goesRace_l108 : ∀ (n108_19 : Nat) (x16 : Int32) (x17 : Int32) (x18 : Int32) (C19 : XH) (H : Heap) (locs : List Loc) (ls : Array Slot), x_X0_goesRace_l108 a0 k162_6 n108_19 x16 x17 x18 C19 → xI D dT A s.heap C19 H locs → lv_has ls 5 [(0, .ref a0), (2, .int x16), (3, .int x17), (4, .int x18)] → W p l e (xRm 8 182 0 0) s m args below meth c H locs 0 0 (MQ below (xQi D dT K A) args s 0 0 A) (F0 m 108 ls []) := by
        intro n108_19
        induction n108_19 with
        | zero =>
          intro x16 x17 x18 C19 H locs ls hs
          exact False.elim hs
        | succ n108_19 ihx_X0_goesRace_l108 =>
          intro x16 x17 x18 C19 H locs ls hs hI hl
          rw [x_X0_goesRace_l108_s] at hs
          refine lv_iload hx hb dX0_goesRace_108 (lv_at hl 3 rfl) ?_
          refine lv_aload_n hx hb dX0_goesRace_110 rfl (lv_at hl 0 rfl) ?_
          obtain ⟨ad21, ead21, hs⟩ := hs
          refine x_get (v := .ref ad21) X hK hI 0 7 rfl in_X0 rfl q335 rfl (xgr_spec ead21) dX0_goesRace_111 ?_
          obtain ⟨v22, ev22, hs⟩ := hs
          refine x_get (v := .int v22) X hK hI 4 0 rfl in_X4 rfl q252 rfl (xgi_spec ev22) dX0_goesRace_114 ?_
          refine lv_icmp_ge (tgt := 162) hx hb dX0_goesRace_117 (by decide) (fun c34 => ?_) (fun c34 => ?_)
          · replace hs := ifp c34 hs
            exact Ek162_6 _ _ _ _ _ hs hI (lv_sub hl [0, 1] rfl)
          · replace hs := ifn c34 hs
            refine lv_aload_n hx hb dX0_goesRace_120 rfl (lv_at hl 0 rfl) ?_
            obtain ⟨ad23, ead23, hs⟩ := hs
            refine x_get (v := .ref ad23) X hK hI 0 4 rfl in_X0 rfl q332 rfl (xgr_spec ead23) dX0_goesRace_121 ?_
            refine lv_iload hx hb dX0_goesRace_124 (lv_at hl 3 rfl) ?_
            obtain ⟨ad24, ead24, hs⟩ := hs
            refine x_aald X hK hI 5 rfl rfl ead24 dX0_goesRace_126 ?_
            obtain ⟨h26, hs⟩ := hs
            obtain ⟨fh26, h26⟩ := xcl_spec h26
            refine x_goi hA hI (x_runV (As := []) (rest := []) X hK hA hG hI h26 (q := (RX2, TX2, 12)) rfl rfl (xet_X2_time l ad24 _ _ hs) iX2_time q1359 q1203 q1204 q96 ⟨(Nat.le_of_ble_eq_true rfl), (Nat.le_of_ble_eq_true rfl)⟩ rfl hl.1 rfl (Nat.le_of_ble_eq_true rfl) dX0_goesRace_127 ⟨(Nat.le_of_ble_eq_true rfl), (Nat.le_of_ble_eq_true rfl)⟩) (fun r26 C25 H locs hs9 hI => ?_)
            replace hs := hs9
            refine lv_iload_n hx hb dX0_goesRace_130 rfl (lv_at hl 2 rfl) ?_
            obtain ⟨k140_28, hk140_28, hs⟩ := jn_ex hs
            have Ek140_28 : ∀ (v28 : Int32) (H : Heap) (locs : List Loc) (ls : Array Slot), k140_28 v28 → xI D dT A s.heap C25 H locs → lv_has ls 5 [(0, .ref a0), (3, .int x17), (4, .int x18)] → W p l e (xRm 8 182 0 0) s m args below meth c H locs 0 0 (MQ below (xQi D dT K A) args s 0 0 A) (F0 m 140 ls [.int v28]) := by
              intro v28 H locs ls hs hI hl
              rw [hk140_28] at hs
              refine lv_istore_n (lv' := [(2, .int v28), (0, .ref a0), (3, .int x17), (4, .int x18)]) hx hb dX0_goesRace_140 rfl hl (by decide) rfl (fun ls hl => ?_)
              refine lv_iload_n hx hb dX0_goesRace_141 rfl (lv_at hl 2 rfl) ?_
              refine lv_aload_n hx hb dX0_goesRace_142 rfl (lv_at hl 1 rfl) ?_
              obtain ⟨ad29, ead29, hs⟩ := hs
              refine x_get (v := .ref ad29) X hK hI 0 4 rfl in_X0 rfl q332 rfl (xgr_spec ead29) dX0_goesRace_143 ?_
              refine lv_iload hx hb dX0_goesRace_146 (lv_at hl 3 rfl) ?_
              obtain ⟨ad30, ead30, hs⟩ := hs
              refine x_aald X hK hI 5 rfl rfl ead30 dX0_goesRace_148 ?_
              obtain ⟨h32, hs⟩ := hs
              obtain ⟨fh32, h32⟩ := xcl_spec h32
              refine x_goi hA hI (x_runV (As := []) (rest := [.int x17]) X hK hA hG hI h32 (q := (RX2, TX2, 12)) rfl rfl (xet_X2_time l ad30 _ _ hs) iX2_time q1359 q1203 q1204 q96 ⟨(Nat.le_of_ble_eq_true rfl), (Nat.le_of_ble_eq_true rfl)⟩ rfl hl.1 rfl (Nat.le_of_ble_eq_true rfl) dX0_goesRace_149 ⟨(Nat.le_of_ble_eq_true rfl), (Nat.le_of_ble_eq_true rfl)⟩) (fun r32 C31 H locs hs9 hI => ?_)
              replace hs := hs9
              refine va_mmin (rest := []) hx hb (X.2.2.2.1.trans hl.1.symm) hown (hts _ q1360) (hts _ q1175) (hts _ q116) (hts _ q1176) (Nat.le_of_ble_eq_true rfl) (Nat.le_of_ble_eq_true rfl) (Nat.le_of_ble_eq_true rfl) (Nat.le_of_ble_eq_true rfl) dX0_goesRace_152 ?_
              refine lv_istore_n (lv' := [(3, .int (imin x17 r32)), (2, .int v28), (0, .ref a0), (4, .int x18)]) hx hb dX0_goesRace_155 rfl hl (by decide) rfl (fun ls hl => ?_)
              refine lv_iinc (v := (x18 + 1)) (lv' := [(4, .int (x18 + 1)), (3, .int (imin x17 r32)), (2, .int v28), (0, .ref a0)]) hx hb dX0_goesRace_156 hl (k := 3) rfl (congrArg (fun z => x18 + z) (show Int32.ofInt (1) = 1 by decide)) (by decide) rfl (fun ls hl => ?_)
              refine lv_goto (tgt := 108) hx hb dX0_goesRace_159 (by decide) ?_
              exact ihx_X0_goesRace_l108 _ _ _ _ _ _ _ hs hI (lv_sub hl [3, 2, 1, 0] rfl)
            refine lv_icmp_ge (tgt := 139) hx hb dX0_goesRace_131 (by decide) (fun c33 => ?_) (fun c33 => ?_)
            · replace hs := ifp c33 hs
              refine lv_iload_n hx hb dX0_goesRace_139 rfl (lv_at hl 1 rfl) ?_
              exact Ek140_28 _ _ _ _ hs hI (lv_sub hl [0, 2, 3] rfl)
            · replace hs := ifn c33 hs
              refine lv_iload hx hb dX0_goesRace_134 (lv_at hl 3 rfl) ?_
              refine lv_goto (tgt := 140) hx hb dX0_goesRace_136 (by decide) ?_
              exact Ek140_28 _ _ _ _ hs hI (lv_sub hl [0, 2, 3] rfl)
      exact Lx_X0_goesRace_l108 NF _ _ _ _ _ _ _ hs hI (lv_sub hl [3, 2, 1, 0] rfl)
    have Lx_X0_goesRace_l38 : ∀ (n38_38 : Nat) (x36 : Int32) (x37 : Int32) (C38 : XH) (H : Heap) (locs : List Loc) (ls : Array Slot), x_X0_goesRace_l38 a0 k99_3 n38_38 x36 x37 C38 → xI D dT A s.heap C38 H locs → lv_has ls 5 [(0, .ref a0), (1, .int x36), (2, .int x37)] → W p l e (xRm 8 182 0 0) s m args below meth c H locs 0 0 (MQ below (xQi D dT K A) args s 0 0 A) (F0 m 38 ls []) := by
      intro n38_38
      induction n38_38 with
      | zero =>
        intro x36 x37 C38 H locs ls hs
        exact False.elim hs
      | succ n38_38 ihx_X0_goesRace_l38 =>
        intro x36 x37 C38 H locs ls hs hI hl
        rw [x_X0_goesRace_l38_s] at hs
        refine lv_iload_n hx hb dX0_goesRace_38 rfl (lv_at hl 2 rfl) ?_
        refine lv_sipush (v := 999) hx hb dX0_goesRace_39 (by decide) ?_
        refine lv_icmp_ge (tgt := 99) hx hb dX0_goesRace_42 (by decide) (fun c62 => ?_) (fun c62 => ?_)
        · replace hs := ifp c62 hs
          exact Ek99_3 _ _ _ _ hs hI (lv_sub hl [0] rfl)
        · replace hs := ifn c62 hs
          refine lv_iload_n hx hb dX0_goesRace_45 rfl (lv_at hl 1 rfl) ?_
          refine lv_if_eq (tgt := 99) hx hb dX0_goesRace_46 (by decide) (fun c61 => ?_) (fun c61 => ?_)
          · replace hs := ifp c61 hs
            exact Ek99_3 _ _ _ _ hs hI (lv_sub hl [0] rfl)
          · replace hs := ifn c61 hs
            refine lv_iconst (v := 0) hx hb dX0_goesRace_49 (by decide) ?_
            refine lv_istore_n (lv' := [(1, .int 0), (0, .ref a0), (2, .int x37)]) hx hb dX0_goesRace_50 rfl hl (by decide) rfl (fun ls hl => ?_)
            refine lv_iconst (v := 0) hx hb dX0_goesRace_51 (by decide) ?_
            refine lv_istore_n (lv' := [(3, .int 0), (1, .int 0), (0, .ref a0), (2, .int x37)]) hx hb dX0_goesRace_52 rfl hl (by decide) rfl (fun ls hl => ?_)
            obtain ⟨k93_41, hk93_41, hs⟩ := jn_ex hs
            have Ek93_41 : ∀ (x40 : Int32) (C41 : XH) (H : Heap) (locs : List Loc) (ls : Array Slot), k93_41 x40 C41 → xI D dT A s.heap C41 H locs → lv_has ls 5 [(0, .ref a0), (1, .int x40), (2, .int x37)] → W p l e (xRm 8 182 0 0) s m args below meth c H locs 0 0 (MQ below (xQi D dT K A) args s 0 0 A) (F0 m 93 ls []) := by
              intro x40 C41 H locs ls hs hI hl
              rw [hk93_41] at hs
              refine lv_iinc (v := (x37 + 1)) (lv' := [(2, .int (x37 + 1)), (0, .ref a0), (1, .int x40)]) hx hb dX0_goesRace_93 hl (k := 2) rfl (congrArg (fun z => x37 + z) (show Int32.ofInt (1) = 1 by decide)) (by decide) rfl (fun ls hl => ?_)
              refine lv_goto (tgt := 38) hx hb dX0_goesRace_96 (by decide) ?_
              exact ihx_X0_goesRace_l38 _ _ _ _ _ _ hs hI (lv_sub hl [1, 2, 0] rfl)
            have Lx_X0_goesRace_l53 : ∀ (n53_45 : Nat) (x43 : Int32) (x44 : Int32) (C45 : XH) (H : Heap) (locs : List Loc) (ls : Array Slot), x_X0_goesRace_l53 a0 k93_41 n53_45 x43 x44 C45 → xI D dT A s.heap C45 H locs → lv_has ls 5 [(0, .ref a0), (1, .int x43), (2, .int x37), (3, .int x44)] → W p l e (xRm 8 182 0 0) s m args below meth c H locs 0 0 (MQ below (xQi D dT K A) args s 0 0 A) (F0 m 53 ls []) := by
              intro n53_45
              induction n53_45 with
              | zero =>
                intro x43 x44 C45 H locs ls hs
                exact False.elim hs
              | succ n53_45 ihx_X0_goesRace_l53 =>
                intro x43 x44 C45 H locs ls hs hI hl
                rw [x_X0_goesRace_l53_s] at hs
                refine lv_iload_n hx hb dX0_goesRace_53 rfl (lv_at hl 3 rfl) ?_
                refine lv_aload_n hx hb dX0_goesRace_54 rfl (lv_at hl 0 rfl) ?_
                obtain ⟨ad47, ead47, hs⟩ := hs
                refine x_get (v := .ref ad47) X hK hI 0 7 rfl in_X0 rfl q335 rfl (xgr_spec ead47) dX0_goesRace_55 ?_
                obtain ⟨v48, ev48, hs⟩ := hs
                refine x_get (v := .int v48) X hK hI 4 0 rfl in_X4 rfl q252 rfl (xgi_spec ev48) dX0_goesRace_58 ?_
                refine lv_icmp_ge (tgt := 93) hx hb dX0_goesRace_61 (by decide) (fun c60 => ?_) (fun c60 => ?_)
                · replace hs := ifp c60 hs
                  exact Ek93_41 _ _ _ _ _ hs hI (lv_sub hl [0, 1, 2] rfl)
                · replace hs := ifn c60 hs
                  refine lv_aload_n hx hb dX0_goesRace_64 rfl (lv_at hl 0 rfl) ?_
                  obtain ⟨ad49, ead49, hs⟩ := hs
                  refine x_get (v := .ref ad49) X hK hI 0 4 rfl in_X0 rfl q332 rfl (xgr_spec ead49) dX0_goesRace_65 ?_
                  refine lv_iload_n hx hb dX0_goesRace_68 rfl (lv_at hl 3 rfl) ?_
                  obtain ⟨ad50, ead50, hs⟩ := hs
                  refine x_aald X hK hI 5 rfl rfl ead50 dX0_goesRace_69 ?_
                  obtain ⟨h52, hs⟩ := hs
                  obtain ⟨fh52, h52⟩ := xcl_spec h52
                  refine x_goz hA hI (x_runV (As := []) (rest := []) X hK hA hG hI h52 (q := (RX2, TX2, 12)) rfl rfl (xet_X2_isThere l ad50 _ _ hs) iX2_isThere q1349 q1159 q1160 q96 ⟨(Nat.le_of_ble_eq_true rfl), (Nat.le_of_ble_eq_true rfl)⟩ rfl hl.1 rfl (Nat.le_of_ble_eq_true rfl) dX0_goesRace_70 ⟨(Nat.le_of_ble_eq_true rfl), (Nat.le_of_ble_eq_true rfl)⟩) (fun r52 C51 H locs br52 hs9 hI => ?_)
                  replace hs := hs9
                  obtain ⟨k87_55, hk87_55, hs⟩ := jn_ex hs
                  have Ek87_55 : ∀ (x54 : Int32) (C55 : XH) (H : Heap) (locs : List Loc) (ls : Array Slot), k87_55 x54 C55 → xI D dT A s.heap C55 H locs → lv_has ls 5 [(0, .ref a0), (1, .int x54), (2, .int x37), (3, .int x44)] → W p l e (xRm 8 182 0 0) s m args below meth c H locs 0 0 (MQ below (xQi D dT K A) args s 0 0 A) (F0 m 87 ls []) := by
                    intro x54 C55 H locs ls hs hI hl
                    rw [hk87_55] at hs
                    refine lv_iinc (v := (x44 + 1)) (lv' := [(3, .int (x44 + 1)), (0, .ref a0), (1, .int x54), (2, .int x37)]) hx hb dX0_goesRace_87 hl (k := 3) rfl (congrArg (fun z => x44 + z) (show Int32.ofInt (1) = 1 by decide)) (by decide) rfl (fun ls hl => ?_)
                    refine lv_goto (tgt := 53) hx hb dX0_goesRace_90 (by decide) ?_
                    exact ihx_X0_goesRace_l53 _ _ _ _ _ _ hs hI (lv_sub hl [1, 2, 3, 0] rfl)
                  refine lv_if_ne (tgt := 87) hx hb dX0_goesRace_73 (by decide) (fun c59 => ?_) (fun c59 => ?_)
                  · replace hs := ifn c59 hs
                    exact Ek87_55 _ _ _ _ _ hs hI hl
                  · replace hs := ifp c59 hs
                    refine lv_aload_n hx hb dX0_goesRace_76 rfl (lv_at hl 0 rfl) ?_
                    obtain ⟨ad56, ead56, hs⟩ := hs
                    refine x_get (v := .ref ad56) X hK hI 0 4 rfl in_X0 rfl q332 rfl (xgr_spec ead56) dX0_goesRace_77 ?_
                    refine lv_iload_n hx hb dX0_goesRace_80 rfl (lv_at hl 3 rfl) ?_
                    obtain ⟨ad57, ead57, hs⟩ := hs
                    refine x_aald X hK hI 5 rfl rfl ead57 dX0_goesRace_81 ?_
                    obtain ⟨h58, hs⟩ := hs
                    obtain ⟨fh58, h58⟩ := xcl_spec h58
                    refine x_gov hA hI (x_runV (As := []) (rest := []) X hK hA hG hI h58 (q := (RX2, TX2, 12)) rfl rfl (xet_X2_passesDrawn l ad57 _ _ hs) iX2_passesDrawn q1350 q1351 q1352 q96 ⟨(Nat.le_of_ble_eq_true rfl), (Nat.le_of_ble_eq_true rfl)⟩ rfl hl.1 rfl (Nat.le_of_ble_eq_true rfl) dX0_goesRace_82 ⟨(Nat.le_of_ble_eq_true rfl), (Nat.le_of_ble_eq_true rfl)⟩) (fun C58 H locs hs9 hI => ?_)
                    replace hs := hs9
                    refine lv_iconst (v := 1) hx hb dX0_goesRace_85 (by decide) ?_
                    refine lv_istore_n (lv' := [(1, .int 1), (0, .ref a0), (2, .int x37), (3, .int x44)]) hx hb dX0_goesRace_86 rfl hl (by decide) rfl (fun ls hl => ?_)
                    exact Ek87_55 _ _ _ _ _ hs hI (lv_sub hl [1, 0, 2, 3] rfl)
            exact Lx_X0_goesRace_l53 NF _ _ _ _ _ _ hs hI (lv_sub hl [2, 1, 3, 0] rfl)
    exact Lx_X0_goesRace_l38 NF _ _ _ _ _ _ hs hI (lv_sub hl [2, 1, 0] rfl)
  have Lx_X0_goesRace_l2 : ∀ (n2_65 : Nat) (x64 : Int32) (C65 : XH) (H : Heap) (locs : List Loc) (ls : Array Slot), x_X0_goesRace_l2 a0 k34_1 n2_65 x64 C65 → xI D dT A s.heap C65 H locs → lv_has ls 5 [(0, .ref a0), (1, .int x64)] → W p l e (xRm 8 182 0 0) s m args below meth c H locs 0 0 (MQ below (xQi D dT K A) args s 0 0 A) (F0 m 2 ls []) := by
    intro n2_65
    induction n2_65 with
    | zero =>
      intro x64 C65 H locs ls hs
      exact False.elim hs
    | succ n2_65 ihx_X0_goesRace_l2 =>
      intro x64 C65 H locs ls hs hI hl
      rw [x_X0_goesRace_l2_s] at hs
      refine lv_iload_n hx hb dX0_goesRace_2 rfl (lv_at hl 1 rfl) ?_
      refine lv_aload_n hx hb dX0_goesRace_3 rfl (lv_at hl 0 rfl) ?_
      obtain ⟨ad67, ead67, hs⟩ := hs
      refine x_get (v := .ref ad67) X hK hI 0 7 rfl in_X0 rfl q335 rfl (xgr_spec ead67) dX0_goesRace_4 ?_
      obtain ⟨v68, ev68, hs⟩ := hs
      refine x_get (v := .int v68) X hK hI 4 0 rfl in_X4 rfl q252 rfl (xgi_spec ev68) dX0_goesRace_7 ?_
      refine lv_icmp_ge (tgt := 34) hx hb dX0_goesRace_10 (by decide) (fun c74 => ?_) (fun c74 => ?_)
      · replace hs := ifp c74 hs
        exact Ek34_1 _ _ _ _ hs hI (lv_sub hl [0] rfl)
      · replace hs := ifn c74 hs
        refine lv_aload_n hx hb dX0_goesRace_13 rfl (lv_at hl 0 rfl) ?_
        obtain ⟨ad69, ead69, hs⟩ := hs
        refine x_get (v := .ref ad69) X hK hI 0 4 rfl in_X0 rfl q332 rfl (xgr_spec ead69) dX0_goesRace_14 ?_
        refine lv_iload_n hx hb dX0_goesRace_17 rfl (lv_at hl 1 rfl) ?_
        obtain ⟨ad70, ead70, hs⟩ := hs
        refine x_aald X hK hI 5 rfl rfl ead70 dX0_goesRace_18 ?_
        refine lv_aload_n hx hb dX0_goesRace_19 rfl (lv_at hl 0 rfl) ?_
        obtain ⟨ad71, ead71, hs⟩ := hs
        refine x_get (v := .ref ad71) X hK hI 0 7 rfl in_X0 rfl q335 rfl (xgr_spec ead71) dX0_goesRace_20 ?_
        refine lv_iload_n hx hb dX0_goesRace_23 rfl (lv_at hl 1 rfl) ?_
        obtain ⟨h73, hs⟩ := hs
        obtain ⟨fh73, h73⟩ := xcl_spec h73
        refine x_gor hA hI (x_runV (As := [.ref ad71, .int x64]) (rest := []) X hK hA hG hI h73 (q := (RX2, TX2, 12)) rfl rfl (xet_X2_of l ad70 ad71 x64 _ _ hs) iX2_of q1136 q1137 q1138 q96 ⟨(Nat.le_of_ble_eq_true rfl), (Nat.le_of_ble_eq_true rfl)⟩ rfl hl.1 rfl (Nat.le_of_ble_eq_true rfl) dX0_goesRace_24 ⟨(Nat.le_of_ble_eq_true rfl), (Nat.le_of_ble_eq_true rfl)⟩) (fun ad73 C72 H locs hs9 hI => ?_)
        replace hs := hs9
        refine lv_pop hx hb dX0_goesRace_27 rfl ?_
        refine lv_iinc (v := (x64 + 1)) (lv' := [(1, .int (x64 + 1)), (0, .ref a0)]) hx hb dX0_goesRace_28 hl (k := 1) rfl (congrArg (fun z => x64 + z) (show Int32.ofInt (1) = 1 by decide)) (by decide) rfl (fun ls hl => ?_)
        refine lv_goto (tgt := 2) hx hb dX0_goesRace_31 (by decide) ?_
        exact ihx_X0_goesRace_l2 _ _ _ _ _ hs hI (lv_sub hl [1, 0] rfl)
  exact Lx_X0_goesRace_l2 NF _ _ _ _ _ hs hI (lv_sub hl [1, 0] rfl)
def x_X0_race (a0 : Nat) (C : XH) (K : Int32 → XH → Prop) : Prop := (xcl C a0 = some 0 ∧ x_X0_someChildren a0 C (fun C1 => (xcl C1 a0 = some 0 ∧ x_X0_goesRace a0 C1 (fun r4 C3 => K r4 C3))) (fun ad6 C7 => (xcl C7 a0 = some 0 ∧ x_X0_refused a0 ad6 C7 (fun r9 C8 => K (r9 - 10) C8))))
theorem iX0_race : xInfW yX0_race cX0_race 2 (some .int) [(0, 8, 9, 21)] 0 := ⟨q1344, by decide +kernel⟩
set_option maxHeartbeats 4000000 in
theorem xet_X0_race (l : Launch) (hl0 : l.stackTraces = false) (a0 : Nat) (C : XH) (K : Int32 → XH → Prop) (hs : x_X0_race a0 C K) : xMetX l yX0_race (wsW_ yX0_race cX0_race 2 (some .int) [(0, 8, 9, 21)]) 9 206 1 7 C [.ref a0] (fun D dT A => xQi D dT K A) xE0 := by
  intro D dT adK adV sz
  refine xEnterW (own := RX0) (Qc := xQi D dT K) (XC := xXC D dT xE0) (by decide) rfl (by rfl) ?_
  intro p e s m args below meth c A ls X hnm hK hA hG hT hI hl
  have hx := X.1
  have hb := X.2.1
  have hts := X.2.2.2.2.1
  have hown := X.2.2.2.2.2.1
  have hl : lv_has ls 2 [(0, .ref a0)] := hl
  unfold x_X0_race at hs
  refine lv_aload_n hx hb dX0_race_0 rfl (lv_at hl 0 rfl) ?_
  obtain ⟨h1, hs⟩ := hs
  obtain ⟨fh1, h1⟩ := xcl_spec h1
  refine xT_gov hA hI (x_runVT (As := []) (rest := []) X hK hA hG hI h1 (q := (RX0, TX0, 10)) rfl rfl (xet_X0_someChildren l hl0 a0 _ _ _ hs) iX0_someChildren q1210 q1212 qs24 q94 ⟨(Nat.le_of_ble_eq_true rfl), (Nat.le_of_ble_eq_true rfl)⟩ rfl hl.1 rfl (Nat.le_of_ble_eq_true rfl) dX0_race_1 ⟨(Nat.le_of_ble_eq_true rfl), (Nat.le_of_ble_eq_true rfl)⟩) (fun En ce ad6 C7 H locs hs9 hI hce hvm hcl => ?_) (fun C1 H locs hs9 hI => ?_)
  · obtain ⟨rfl, hs0⟩ := hs9
    replace hs := hs0
    refine x_catch (k := 0) (a1 := 0) (a2 := 8) (a3 := 9) (a4 := 21) X hG hT rfl (x_cov rfl) rfl (by decide) q363 (by decide) hce hvm hcl ?_
    refine lv_astore_n (lv' := [(1, .ref ad6), (0, .ref a0)]) hx hb dX0_race_9 rfl hl (by decide) rfl (fun ls hl => ?_)
    refine lv_aload_n hx hb dX0_race_10 rfl (lv_at hl 1 rfl) ?_
    refine lv_aload_n hx hb dX0_race_11 rfl (lv_at hl 0 rfl) ?_
    obtain ⟨h9, hs⟩ := hs
    obtain ⟨fh9, h9⟩ := xcl_spec h9
    refine x_goi hA hI (x_runV (As := [.ref ad6]) (rest := []) X hK hA hG hI h9 (q := (RX0, TX0, 10)) rfl rfl (xet_X0_refused l a0 ad6 _ _ hs) iX0_refused q538 q540 qs2 q94 ⟨(Nat.le_of_ble_eq_true rfl), (Nat.le_of_ble_eq_true rfl)⟩ rfl hl.1 rfl (Nat.le_of_ble_eq_true rfl) dX0_race_12 ⟨(Nat.le_of_ble_eq_true rfl), (Nat.le_of_ble_eq_true rfl)⟩) (fun r9 C8 H locs hs9 hI => ?_)
    replace hs := hs9
    refine lv_bipush (v := 10) hx hb dX0_race_15 (by decide) ?_
    refine lv_isub hx hb dX0_race_17 ?_
    exact vx_ret (x_reti X hK hI hs (Nat.le_of_ble_eq_true rfl) (Nat.le_of_ble_eq_true rfl) dX0_race_18)
  · replace hs := hs9
    refine lv_aload_n hx hb dX0_race_4 rfl (lv_at hl 0 rfl) ?_
    obtain ⟨h4, hs⟩ := hs
    obtain ⟨fh4, h4⟩ := xcl_spec h4
    refine x_goi hA hI (x_runV (As := []) (rest := []) X hK hA hG hI h4 (q := (RX0, TX0, 10)) rfl rfl (xet_X0_goesRace l a0 _ _ hs) iX0_goesRace q1345 q1347 qs37 q94 ⟨(Nat.le_of_ble_eq_true rfl), (Nat.le_of_ble_eq_true rfl)⟩ rfl hl.1 rfl (Nat.le_of_ble_eq_true rfl) dX0_race_5 ⟨(Nat.le_of_ble_eq_true rfl), (Nat.le_of_ble_eq_true rfl)⟩) (fun r4 C3 H locs hs9 hI => ?_)
    replace hs := hs9
    exact vx_ret (x_reti X hK hI hs (Nat.le_of_ble_eq_true rfl) (Nat.le_of_ble_eq_true rfl) dX0_race_8)
def x_X0_summer_l32 (a0 : Nat) (a1 : Int32) (k49_9 : XH → Prop) : Nat → Int32 → XH → Prop
  | 0, _, _ => False
  | n32_15 + 1, x14, C15 => (if a1 ≤ x14 then k49_9 C15 else (xcl C15 a0 = some 0 ∧ x_X0_goesRace a0 C15 (fun r18 C17 => x_X0_summer_l32 a0 a1 k49_9 n32_15 (x14 + 1) C17)))
theorem x_X0_summer_l32_s (a0 : Nat) (a1 : Int32) (k49_9 : XH → Prop) (n32_15 : Nat) (x14 : Int32) (C15 : XH) : x_X0_summer_l32 a0 a1 k49_9 (n32_15 + 1) x14 C15 = ((if a1 ≤ x14 then k49_9 C15 else (xcl C15 a0 = some 0 ∧ x_X0_goesRace a0 C15 (fun r18 C17 => x_X0_summer_l32 a0 a1 k49_9 n32_15 (x14 + 1) C17)))) := rfl
def x_X0_summer (a0 : Nat) (a1 : Int32) (a2 : Int32) (C : XH) (K : Int32 → XH → Prop) : Prop := (xcl C a0 = some 0 ∧ x_X0_mustChild a0 a2 C (fun C1 => x_X0_in ((a1 : Int32).toInt64) 1 30 C1 (fun r4 C3 => x_X0_need r4 (-6) C3 (fun C5 => obd (xgr C5 (xis 0) a0 7) (fun ad6 => obd (xgr C5 (xis 4) ad6 10) (fun ad7 => obd (xai C5 0 ad7 a2) (fun v8 => jn (fun (C9 : XH) => obd (xgr C9 (xis 0) a0 7) (fun ad11 => obd (xgr C9 (xis 4) ad11 10) (fun ad12 => obd (xai C9 0 ad12 a2) (fun v13 => K (v13 - v8) C9)))) (fun k49_9 => x_X0_summer_l32 a0 a1 k49_9 NF 0 C5))))) (fun ad21 C22 => (xcl C22 a0 = some 0 ∧ x_X0_refused a0 ad21 C22 (fun r24 C23 => K r24 C23))))) (fun ad26 C27 => (xcl C27 a0 = some 0 ∧ x_X0_refused a0 ad26 C27 (fun r29 C28 => K r29 C28))))
theorem iX0_summer : xInfW yX0_summer cX0_summer 5 (some .int) [(0, 60, 61, 21)] 2 := ⟨q1364, by decide +kernel⟩
set_option maxHeartbeats 4000000 in
theorem xet_X0_summer (l : Launch) (hl0 : l.stackTraces = false) (a0 : Nat) (a1 : Int32) (a2 : Int32) (C : XH) (K : Int32 → XH → Prop) (hs : x_X0_summer a0 a1 a2 C K) : xMetX l yX0_summer (wsW_ yX0_summer cX0_summer 5 (some .int) [(0, 60, 61, 21)]) 9 206 2 14 C [.ref a0, .int a1, .int a2] (fun D dT A => xQi D dT K A) xE0 := by
  intro D dT adK adV sz
  refine xEnterW (own := RX0) (Qc := xQi D dT K) (XC := xXC D dT xE0) (by decide) rfl (by rfl) ?_
  intro p e s m args below meth c A ls X hnm hK hA hG hT hI hl
  have hx := X.1
  have hb := X.2.1
  have hts := X.2.2.2.2.1
  have hown := X.2.2.2.2.2.1
  have hl : lv_has ls 5 [(0, .ref a0), (1, .int a1), (2, .int a2)] := hl
  unfold x_X0_summer at hs
  refine lv_aload_n hx hb dX0_summer_0 rfl (lv_at hl 0 rfl) ?_
  refine lv_iload_n hx hb dX0_summer_1 rfl (lv_at hl 2 rfl) ?_
  obtain ⟨h1, hs⟩ := hs
  obtain ⟨fh1, h1⟩ := xcl_spec h1
  refine xT_gov hA hI (x_runVT (As := [.int a2]) (rest := []) X hK hA hG hI h1 (q := (RX0, TX0, 10)) rfl rfl (xet_X0_mustChild l hl0 a0 a2 _ _ _ hs) iX0_mustChild q649 q651 qs3 q94 ⟨(Nat.le_of_ble_eq_true rfl), (Nat.le_of_ble_eq_true rfl)⟩ rfl hl.1 rfl (Nat.le_of_ble_eq_true rfl) dX0_summer_2 ⟨(Nat.le_of_ble_eq_true rfl), (Nat.le_of_ble_eq_true rfl)⟩) (fun En ce ad26 C27 H locs hs9 hI hce hvm hcl => ?_) (fun C1 H locs hs9 hI => ?_)
  · obtain ⟨rfl, hs0⟩ := hs9
    replace hs := hs0
    refine x_catch (k := 0) (a1 := 0) (a2 := 60) (a3 := 61) (a4 := 21) X hG hT rfl (x_cov rfl) rfl (by decide) q363 (by decide) hce hvm hcl ?_
    refine lv_astore_n (lv' := [(3, .ref ad26), (0, .ref a0), (1, .int a1), (2, .int a2)]) hx hb dX0_summer_61 rfl hl (by decide) rfl (fun ls hl => ?_)
    refine lv_aload_n hx hb dX0_summer_62 rfl (lv_at hl 1 rfl) ?_
    refine lv_aload_n hx hb dX0_summer_63 rfl (lv_at hl 0 rfl) ?_
    obtain ⟨h29, hs⟩ := hs
    obtain ⟨fh29, h29⟩ := xcl_spec h29
    refine x_goi hA hI (x_runV (As := [.ref ad26]) (rest := []) X hK hA hG hI h29 (q := (RX0, TX0, 10)) rfl rfl (xet_X0_refused l a0 ad26 _ _ hs) iX0_refused q538 q540 qs2 q94 ⟨(Nat.le_of_ble_eq_true rfl), (Nat.le_of_ble_eq_true rfl)⟩ rfl hl.1 rfl (Nat.le_of_ble_eq_true rfl) dX0_summer_64 ⟨(Nat.le_of_ble_eq_true rfl), (Nat.le_of_ble_eq_true rfl)⟩) (fun r29 C28 H locs hs9 hI => ?_)
    replace hs := hs9
    exact vx_ret (x_reti X hK hI hs (Nat.le_of_ble_eq_true rfl) (Nat.le_of_ble_eq_true rfl) dX0_summer_67)
  · replace hs := hs9
    refine lv_iload_n hx hb dX0_summer_5 rfl (lv_at hl 1 rfl) ?_
    refine lv_i2l (v := ((a1 : Int32).toInt64)) hx hb dX0_summer_6 rfl ?_
    refine lv_lconst (v := 1) hx hb dX0_summer_7 (by decide) ?_
    refine lv_ldc2 hx hb hown (hts _ q1365) dX0_summer_8 ?_
    refine x_goz hA hI (x_runS (As := [.long ((a1 : Int32).toInt64), .long 1, .long 30]) (rest := []) X hK hA hG hI (xet_X0_in l ((a1 : Int32).toInt64) 1 30 _ _ hs) iX0_in q473 q474 q94 ⟨(Nat.le_of_ble_eq_true rfl), (Nat.le_of_ble_eq_true rfl)⟩ rfl hl.1 rfl (Nat.le_of_ble_eq_true rfl) dX0_summer_11 ⟨(Nat.le_of_ble_eq_true rfl), (Nat.le_of_ble_eq_true rfl)⟩) (fun r4 C3 H locs br4 hs9 hI => ?_)
    replace hs := hs9
    refine lv_bipush (v := (-6)) hx hb dX0_summer_14 (by decide) ?_
    refine xT_gov hA hI (x_runST (As := [.int r4, .int (-6)]) (rest := []) X hK hA hG hI (xet_X0_need l hl0 r4 (-6) _ _ _ hs) iX0_need q469 q470 q94 ⟨(Nat.le_of_ble_eq_true rfl), (Nat.le_of_ble_eq_true rfl)⟩ rfl hl.1 rfl (Nat.le_of_ble_eq_true rfl) dX0_summer_16 ⟨(Nat.le_of_ble_eq_true rfl), (Nat.le_of_ble_eq_true rfl)⟩) (fun En ce ad21 C22 H locs hs9 hI hce hvm hcl => ?_) (fun C5 H locs hs9 hI => ?_)
    · obtain ⟨rfl, hs0⟩ := hs9
      replace hs := hs0
      refine x_catch (k := 0) (a1 := 0) (a2 := 60) (a3 := 61) (a4 := 21) X hG hT rfl (x_cov rfl) rfl (by decide) q363 (by decide) hce hvm hcl ?_
      refine lv_astore_n (lv' := [(3, .ref ad21), (0, .ref a0), (1, .int a1), (2, .int a2)]) hx hb dX0_summer_61 rfl hl (by decide) rfl (fun ls hl => ?_)
      refine lv_aload_n hx hb dX0_summer_62 rfl (lv_at hl 1 rfl) ?_
      refine lv_aload_n hx hb dX0_summer_63 rfl (lv_at hl 0 rfl) ?_
      obtain ⟨h24, hs⟩ := hs
      obtain ⟨fh24, h24⟩ := xcl_spec h24
      refine x_goi hA hI (x_runV (As := [.ref ad21]) (rest := []) X hK hA hG hI h24 (q := (RX0, TX0, 10)) rfl rfl (xet_X0_refused l a0 ad21 _ _ hs) iX0_refused q538 q540 qs2 q94 ⟨(Nat.le_of_ble_eq_true rfl), (Nat.le_of_ble_eq_true rfl)⟩ rfl hl.1 rfl (Nat.le_of_ble_eq_true rfl) dX0_summer_64 ⟨(Nat.le_of_ble_eq_true rfl), (Nat.le_of_ble_eq_true rfl)⟩) (fun r24 C23 H locs hs9 hI => ?_)
      replace hs := hs9
      exact vx_ret (x_reti X hK hI hs (Nat.le_of_ble_eq_true rfl) (Nat.le_of_ble_eq_true rfl) dX0_summer_67)
    · replace hs := hs9
      refine lv_aload_n hx hb dX0_summer_19 rfl (lv_at hl 0 rfl) ?_
      obtain ⟨ad6, ead6, hs⟩ := hs
      refine x_get (v := .ref ad6) X hK hI 0 7 rfl in_X0 rfl q335 rfl (xgr_spec ead6) dX0_summer_20 ?_
      obtain ⟨ad7, ead7, hs⟩ := hs
      refine x_get (v := .ref ad7) X hK hI 4 10 rfl in_X4 rfl q286 rfl (xgr_spec ead7) dX0_summer_23 ?_
      refine lv_iload_n hx hb dX0_summer_26 rfl (lv_at hl 2 rfl) ?_
      obtain ⟨v8, ev8, hs⟩ := hs
      refine x_iald X hK hI ev8 dX0_summer_27 ?_
      refine lv_istore_n (lv' := [(3, .int v8), (0, .ref a0), (1, .int a1), (2, .int a2)]) hx hb dX0_summer_28 rfl hl (by decide) rfl (fun ls hl => ?_)
      refine lv_iconst (v := 0) hx hb dX0_summer_29 (by decide) ?_
      refine lv_istore (lv' := [(4, .int 0), (3, .int v8), (0, .ref a0), (1, .int a1), (2, .int a2)]) hx hb dX0_summer_30 hl (by decide) rfl (fun ls hl => ?_)
      obtain ⟨k49_9, hk49_9, hs⟩ := jn_ex hs
      have Ek49_9 : ∀ (C9 : XH) (H : Heap) (locs : List Loc) (ls : Array Slot), k49_9 C9 → xI D dT A s.heap C9 H locs → lv_has ls 5 [(0, .ref a0), (2, .int a2), (3, .int v8)] → W p l e (xRm 9 206 2 14) s m args below meth c H locs 2 14 (vx_MQ below (xQi D dT K A) (xXC D dT xE0 A) args s 2 14 A) (F0 m 49 ls []) := by
        intro C9 H locs ls hs hI hl
        rw [hk49_9] at hs
        refine lv_aload_n hx hb dX0_summer_49 rfl (lv_at hl 0 rfl) ?_
        obtain ⟨ad11, ead11, hs⟩ := hs
        refine x_get (v := .ref ad11) X hK hI 0 7 rfl in_X0 rfl q335 rfl (xgr_spec ead11) dX0_summer_50 ?_
        obtain ⟨ad12, ead12, hs⟩ := hs
        refine x_get (v := .ref ad12) X hK hI 4 10 rfl in_X4 rfl q286 rfl (xgr_spec ead12) dX0_summer_53 ?_
        refine lv_iload_n hx hb dX0_summer_56 rfl (lv_at hl 1 rfl) ?_
        obtain ⟨v13, ev13, hs⟩ := hs
        refine x_iald X hK hI ev13 dX0_summer_57 ?_
        refine lv_iload_n hx hb dX0_summer_58 rfl (lv_at hl 2 rfl) ?_
        refine lv_isub hx hb dX0_summer_59 ?_
        exact vx_ret (x_reti X hK hI hs (Nat.le_of_ble_eq_true rfl) (Nat.le_of_ble_eq_true rfl) dX0_summer_60)
      have Lx_X0_summer_l32 : ∀ (n32_15 : Nat) (x14 : Int32) (C15 : XH) (H : Heap) (locs : List Loc) (ls : Array Slot), x_X0_summer_l32 a0 a1 k49_9 n32_15 x14 C15 → xI D dT A s.heap C15 H locs → lv_has ls 5 [(0, .ref a0), (1, .int a1), (2, .int a2), (3, .int v8), (4, .int x14)] → W p l e (xRm 9 206 2 14) s m args below meth c H locs 2 14 (vx_MQ below (xQi D dT K A) (xXC D dT xE0 A) args s 2 14 A) (F0 m 32 ls []) := by
        intro n32_15
        induction n32_15 with
        | zero =>
          intro x14 C15 H locs ls hs
          exact False.elim hs
        | succ n32_15 ihx_X0_summer_l32 =>
          intro x14 C15 H locs ls hs hI hl
          rw [x_X0_summer_l32_s] at hs
          refine lv_iload hx hb dX0_summer_32 (lv_at hl 4 rfl) ?_
          refine lv_iload_n hx hb dX0_summer_34 rfl (lv_at hl 1 rfl) ?_
          refine lv_icmp_ge (tgt := 49) hx hb dX0_summer_35 (by decide) (fun c19 => ?_) (fun c19 => ?_)
          · replace hs := ifp c19 hs
            exact Ek49_9 _ _ _ _ hs hI (lv_sub hl [0, 2, 3] rfl)
          · replace hs := ifn c19 hs
            refine lv_aload_n hx hb dX0_summer_38 rfl (lv_at hl 0 rfl) ?_
            obtain ⟨h18, hs⟩ := hs
            obtain ⟨fh18, h18⟩ := xcl_spec h18
            refine x_goi hA hI (x_runV (As := []) (rest := []) X hK hA hG hI h18 (q := (RX0, TX0, 10)) rfl rfl (xet_X0_goesRace l a0 _ _ hs) iX0_goesRace q1345 q1347 qs37 q94 ⟨(Nat.le_of_ble_eq_true rfl), (Nat.le_of_ble_eq_true rfl)⟩ rfl hl.1 rfl (Nat.le_of_ble_eq_true rfl) dX0_summer_39 ⟨(Nat.le_of_ble_eq_true rfl), (Nat.le_of_ble_eq_true rfl)⟩) (fun r18 C17 H locs hs9 hI => ?_)
            replace hs := hs9
            refine lv_pop hx hb dX0_summer_42 rfl ?_
            refine lv_iinc (v := (x14 + 1)) (lv' := [(4, .int (x14 + 1)), (0, .ref a0), (1, .int a1), (2, .int a2), (3, .int v8)]) hx hb dX0_summer_43 hl (k := 4) rfl (congrArg (fun z => x14 + z) (show Int32.ofInt (1) = 1 by decide)) (by decide) rfl (fun ls hl => ?_)
            refine lv_goto (tgt := 32) hx hb dX0_summer_46 (by decide) ?_
            exact ihx_X0_summer_l32 _ _ _ _ _ hs hI (lv_sub hl [1, 2, 3, 4, 0] rfl)
      exact Lx_X0_summer_l32 NF _ _ _ _ _ hs hI (lv_sub hl [2, 3, 4, 1, 0] rfl)
def x_X0_seed (a0 : Nat) (a1 : Int32) (C : XH) (K : Int32 → XH → Prop) : Prop := obd (xgr C (xis 0) a0 7) (fun ad1 => obd (xgi C (xis 4) ad1 4) (fun v2 => obd (xgr C (xis 0) a0 7) (fun ad3 => obd (xpv C (xis 4) ad3 4 (.int a1)) (fun C4 => K v2 C4))))
theorem iX0_seed : xInf yX0_seed cX0_seed 3 (some .int) 1 := ⟨q1369, by decide +kernel⟩
set_option maxHeartbeats 4000000 in
theorem xet_X0_seed (l : Launch) (a0 : Nat) (a1 : Int32) (C : XH) (K : Int32 → XH → Prop) (hs : x_X0_seed a0 a1 C K) : xMeti l yX0_seed (ws_ yX0_seed cX0_seed 3 (some .int)) 0 0 0 0 C [.ref a0, .int a1] K := by
  intro D dT adK adV sz
  refine xEnter (own := RX0) (Qc := xQi D dT K) (by decide) rfl (by rfl) ?_
  intro p e s m args below meth c A ls X hnm hK hA hG hI hl
  have hx := X.1
  have hb := X.2.1
  have hts := X.2.2.2.2.1
  have hown := X.2.2.2.2.2.1
  have hl : lv_has ls 3 [(0, .ref a0), (1, .int a1)] := hl
  unfold x_X0_seed at hs
  refine lv_aload_n hx hb dX0_seed_0 rfl (lv_at hl 0 rfl) ?_
  obtain ⟨ad1, ead1, hs⟩ := hs
  refine x_get (v := .ref ad1) X hK hI 0 7 rfl in_X0 rfl q335 rfl (xgr_spec ead1) dX0_seed_1 ?_
  obtain ⟨v2, ev2, hs⟩ := hs
  refine x_get (v := .int v2) X hK hI 4 4 rfl in_X4 rfl q264 rfl (xgi_spec ev2) dX0_seed_4 ?_
  refine lv_istore_n (lv' := [(2, .int v2), (0, .ref a0), (1, .int a1)]) hx hb dX0_seed_7 rfl hl (by decide) rfl (fun ls hl => ?_)
  refine lv_aload_n hx hb dX0_seed_8 rfl (lv_at hl 1 rfl) ?_
  obtain ⟨ad3, ead3, hs⟩ := hs
  refine x_get (v := .ref ad3) X hK hI 0 7 rfl in_X0 rfl q335 rfl (xgr_spec ead3) dX0_seed_9 ?_
  refine lv_iload_n hx hb dX0_seed_12 rfl (lv_at hl 2 rfl) ?_
  obtain ⟨C4, eC4, hs⟩ := hs
  refine x_put X hK hI 4 4 rfl in_X4 tyX4 tyX4_ok nmX4 rfl q264 rfl rfl rfl rfl eC4 dX0_seed_13 (fun H locs hI => ?_)
  refine lv_iload_n hx hb dX0_seed_16 rfl (lv_at hl 0 rfl) ?_
  exact x_reti X hK hI hs (Nat.le_of_ble_eq_true rfl) (Nat.le_of_ble_eq_true rfl) dX0_seed_17
def x_X1_runs (a0 : Nat) (a1 : Int32) (C : XH) (K : XH → Prop) : Prop := obd (xgi C (xis 1) a0 1) (fun v1 => jn (fun (C2 : XH) => obd (xgi C2 (xis 1) a0 1) (fun v3 => obd (xpv C2 (xis 1) a0 1 (.int (v3 + 1))) (fun C4 => K C4))) (fun k19_2 => (if 20 ≤ v1 then k19_2 C else obd (xgr C (xis 1) a0 0) (fun ad5 => obd (xgi C (xis 1) a0 1) (fun v6 => obd (xsi C ad5 v6 a1) (fun C7 => k19_2 C7))))))
theorem iX1_runs : xInf yX1_runs cX1_runs 2 none 1 := ⟨q1384, by decide +kernel⟩
set_option maxHeartbeats 4000000 in
theorem xet_X1_runs (l : Launch) (a0 : Nat) (a1 : Int32) (C : XH) (K : XH → Prop) (hs : x_X1_runs a0 a1 C K) : xMetv l yX1_runs (ws_ yX1_runs cX1_runs 2 none) 0 0 0 0 C [.ref a0, .int a1] K := by
  intro D dT adK adV sz
  refine xEnter (own := RX1) (Qc := xQv D dT K) (by decide) rfl (by rfl) ?_
  intro p e s m args below meth c A ls X hnm hK hA hG hI hl
  have hx := X.1
  have hb := X.2.1
  have hts := X.2.2.2.2.1
  have hown := X.2.2.2.2.2.1
  have hl : lv_has ls 2 [(0, .ref a0), (1, .int a1)] := hl
  unfold x_X1_runs at hs
  refine lv_aload_n hx hb dX1_runs_0 rfl (lv_at hl 0 rfl) ?_
  obtain ⟨v1, ev1, hs⟩ := hs
  refine x_get (v := .int v1) X hK hI 1 1 rfl in_X1 rfl q148 rfl (xgi_spec ev1) dX1_runs_1 ?_
  refine lv_bipush (v := 20) hx hb dX1_runs_4 (by decide) ?_
  obtain ⟨k19_2, hk19_2, hs⟩ := jn_ex hs
  have Ek19_2 : ∀ (C2 : XH) (H : Heap) (locs : List Loc) (ls : Array Slot), k19_2 C2 → xI D dT A s.heap C2 H locs → lv_has ls 2 [(0, .ref a0)] → W p l e (xRm 0 0 0 0) s m args below meth c H locs 0 0 (MQ below (xQv D dT K A) args s 0 0 A) (F0 m 19 ls []) := by
    intro C2 H locs ls hs hI hl
    rw [hk19_2] at hs
    refine lv_aload_n hx hb dX1_runs_19 rfl (lv_at hl 0 rfl) ?_
    refine lv_dup hx hb dX1_runs_20 rfl ?_
    obtain ⟨v3, ev3, hs⟩ := hs
    refine x_get (v := .int v3) X hK hI 1 1 rfl in_X1 rfl q148 rfl (xgi_spec ev3) dX1_runs_21 ?_
    refine lv_iconst (v := 1) hx hb dX1_runs_24 (by decide) ?_
    refine lv_iadd hx hb dX1_runs_25 ?_
    obtain ⟨C4, eC4, hs⟩ := hs
    refine x_put X hK hI 1 1 rfl in_X1 tyX1 tyX1_ok nmX1 rfl q148 rfl rfl rfl rfl eC4 dX1_runs_26 (fun H locs hI => ?_)
    exact x_retv X hK hI hs (Nat.le_of_ble_eq_true rfl) (Nat.le_of_ble_eq_true rfl) dX1_runs_29
  refine lv_icmp_ge (tgt := 19) hx hb dX1_runs_6 (by decide) (fun c7 => ?_) (fun c7 => ?_)
  · replace hs := ifp c7 hs
    exact Ek19_2 _ _ _ _ hs hI (lv_sub hl [0] rfl)
  · replace hs := ifn c7 hs
    refine lv_aload_n hx hb dX1_runs_9 rfl (lv_at hl 0 rfl) ?_
    obtain ⟨ad5, ead5, hs⟩ := hs
    refine x_get (v := .ref ad5) X hK hI 1 0 rfl in_X1 rfl q146 rfl (xgr_spec ead5) dX1_runs_10 ?_
    refine lv_aload_n hx hb dX1_runs_13 rfl (lv_at hl 0 rfl) ?_
    obtain ⟨v6, ev6, hs⟩ := hs
    refine x_get (v := .int v6) X hK hI 1 1 rfl in_X1 rfl q148 rfl (xgi_spec ev6) dX1_runs_14 ?_
    refine lv_iload_n hx hb dX1_runs_17 rfl (lv_at hl 1 rfl) ?_
    obtain ⟨C7, eC7, hs⟩ := hs
    refine x_iast X hK hI eC7 dX1_runs_18 (fun H locs hI => ?_)
    exact Ek19_2 _ _ _ _ hs hI (lv_sub hl [0] rfl)
def x_X13_hopping (a0 : Nat) (a1 : Int32) (a2 : Nat) (C : XH) (K : Int32 → XH → Prop) : Prop := (xcl C a2 = some 1 ∧ x_X1_runs a2 10 C (fun C1 => obd (xgi C1 xisH a0 0) (fun v3 => K (a1 + v3) C1)))
theorem iX13_hopping : xInf yX13_hopping cX13_hopping 3 (some .int) 2 := ⟨q1386, by decide +kernel⟩
set_option maxHeartbeats 4000000 in
theorem xet_X13_hopping (l : Launch) (a0 : Nat) (a1 : Int32) (a2 : Nat) (C : XH) (K : Int32 → XH → Prop) (hs : x_X13_hopping a0 a1 a2 C K) : xMeti l yX13_hopping (ws_ yX13_hopping cX13_hopping 3 (some .int)) 1 21 0 0 C [.ref a0, .int a1, .ref a2] K := by
  intro D dT adK adV sz
  refine xEnter (own := RX13) (Qc := xQi D dT K) (by decide) rfl (by rfl) ?_
  intro p e s m args below meth c A ls X hnm hK hA hG hI hl
  have hx := X.1
  have hb := X.2.1
  have hts := X.2.2.2.2.1
  have hown := X.2.2.2.2.2.1
  have hl : lv_has ls 3 [(0, .ref a0), (1, .int a1), (2, .ref a2)] := hl
  unfold x_X13_hopping at hs
  refine lv_aload_n hx hb dX13_hopping_0 rfl (lv_at hl 2 rfl) ?_
  refine lv_bipush (v := 10) hx hb dX13_hopping_1 (by decide) ?_
  obtain ⟨h1, hs⟩ := hs
  obtain ⟨fh1, h1⟩ := xcl_spec h1
  refine x_gov hA hI (x_runV (As := [.int 10]) (rest := []) X hK hA hG hI h1 (q := (RX1, TX1, 2)) rfl rfl (xet_X1_runs l a2 10 _ _ hs) iX1_runs q1387 q1382 q1383 q95 ⟨(Nat.le_of_ble_eq_true rfl), (Nat.le_of_ble_eq_true rfl)⟩ rfl hl.1 rfl (Nat.le_of_ble_eq_true rfl) dX13_hopping_3 ⟨(Nat.le_of_ble_eq_true rfl), (Nat.le_of_ble_eq_true rfl)⟩) (fun C1 H locs hs9 hI => ?_)
  replace hs := hs9
  refine lv_iload_n hx hb dX13_hopping_6 rfl (lv_at hl 1 rfl) ?_
  refine lv_aload_n hx hb dX13_hopping_7 rfl (lv_at hl 0 rfl) ?_
  obtain ⟨v3, ev3, hs⟩ := hs
  refine x_getH (v := .int v3) X hK hI 0 (by decide) q792 (fun x hx => hx) (xgi_spec ev3) dX13_hopping_8 ?_
  refine lv_iadd hx hb dX13_hopping_11 ?_
  exact x_reti X hK hI hs (Nat.le_of_ble_eq_true rfl) (Nat.le_of_ble_eq_true rfl) dX13_hopping_12
def x_X14_hopping (a0 : Nat) (a1 : Int32) (a2 : Nat) (C : XH) (K : Int32 → XH → Prop) : Prop := (xcl C a2 = some 1 ∧ x_X1_runs a2 20 C (fun C1 => obd (xcl C1 a0) (fun ch4 => xisH ch4 = true ∧ x_X13_hopping a0 a1 a2 C1 (fun r4 C3 => obd (xgi C3 xisH a0 1) (fun v6 => K (r4 + v6) C3)))))
theorem iX14_hopping : xInf yX14_hopping cX14_hopping 3 (some .int) 2 := ⟨q1380, by decide +kernel⟩
set_option maxHeartbeats 4000000 in
theorem xet_X14_hopping (l : Launch) (a0 : Nat) (a1 : Int32) (a2 : Nat) (C : XH) (K : Int32 → XH → Prop) (hs : x_X14_hopping a0 a1 a2 C K) : xMeti l yX14_hopping (ws_ yX14_hopping cX14_hopping 3 (some .int)) 2 43 0 0 C [.ref a0, .int a1, .ref a2] K := by
  intro D dT adK adV sz
  refine xEnter (own := RX14) (Qc := xQi D dT K) (by decide) rfl (by rfl) ?_
  intro p e s m args below meth c A ls X hnm hK hA hG hI hl
  have hx := X.1
  have hb := X.2.1
  have hts := X.2.2.2.2.1
  have hown := X.2.2.2.2.2.1
  have hl : lv_has ls 3 [(0, .ref a0), (1, .int a1), (2, .ref a2)] := hl
  unfold x_X14_hopping at hs
  refine lv_aload_n hx hb dX14_hopping_0 rfl (lv_at hl 2 rfl) ?_
  refine lv_bipush (v := 20) hx hb dX14_hopping_1 (by decide) ?_
  obtain ⟨h1, hs⟩ := hs
  obtain ⟨fh1, h1⟩ := xcl_spec h1
  refine x_gov hA hI (x_runV (As := [.int 20]) (rest := []) X hK hA hG hI h1 (q := (RX1, TX1, 2)) rfl rfl (xet_X1_runs l a2 20 _ _ hs) iX1_runs q1381 q1382 q1383 q95 ⟨(Nat.le_of_ble_eq_true rfl), (Nat.le_of_ble_eq_true rfl)⟩ rfl hl.1 rfl (Nat.le_of_ble_eq_true rfl) dX14_hopping_3 ⟨(Nat.le_of_ble_eq_true rfl), (Nat.le_of_ble_eq_true rfl)⟩) (fun C1 H locs hs9 hI => ?_)
  replace hs := hs9
  refine lv_aload_n hx hb dX14_hopping_6 rfl (lv_at hl 0 rfl) ?_
  refine lv_iload_n hx hb dX14_hopping_7 rfl (lv_at hl 1 rfl) ?_
  refine lv_aload_n hx hb dX14_hopping_8 rfl (lv_at hl 2 rfl) ?_
  obtain ⟨ch4, h4, gh4, hs⟩ := hs
  obtain ⟨fh4, h4⟩ := xcl_spec h4
  obtain ⟨ah4, gh4⟩ := x_aclH gh4
  refine x_goi hA hI (x_runSU (As := [.int a1, .ref a2]) (rest := []) X hK hA hG hI h4 gh4 (xet_X13_hopping l a0 a1 a2 _ _ hs) iX13_hopping (by decide) q1385 q1377 q685 q1375 q117 ⟨(Nat.le_of_ble_eq_true rfl), (Nat.le_of_ble_eq_true rfl)⟩ rfl hl.1 rfl (Nat.le_of_ble_eq_true rfl) dX14_hopping_9 ⟨(Nat.le_of_ble_eq_true rfl), (Nat.le_of_ble_eq_true rfl)⟩) (fun r4 C3 H locs hs9 hI => ?_)
  replace hs := hs9
  refine lv_aload_n hx hb dX14_hopping_12 rfl (lv_at hl 0 rfl) ?_
  obtain ⟨v6, ev6, hs⟩ := hs
  refine x_getH (v := .int v6) X hK hI 1 (by decide) q807 (x_same X q808) (xgi_spec ev6) dX14_hopping_13 ?_
  refine lv_iadd hx hb dX14_hopping_16 ?_
  exact x_reti X hK hI hs (Nat.le_of_ble_eq_true rfl) (Nat.le_of_ble_eq_true rfl) dX14_hopping_17
def x_X17_hopping (a0 : Nat) (a1 : Int32) (a2 : Nat) (C : XH) (K : Int32 → XH → Prop) : Prop := (xcl C a2 = some 1 ∧ x_X1_runs a2 51 C (fun C1 => obd (xcl C1 a0) (fun ch4 => xisH ch4 = true ∧ x_X13_hopping a0 a1 a2 C1 (fun r4 C3 => obd (xgi C3 xisH a0 0) (fun v6 => K (r4 - v6) C3)))))
theorem iX17_hopping : xInf yX17_hopping cX17_hopping 3 (some .int) 2 := ⟨q1393, by decide +kernel⟩
set_option maxHeartbeats 4000000 in
theorem xet_X17_hopping (l : Launch) (a0 : Nat) (a1 : Int32) (a2 : Nat) (C : XH) (K : Int32 → XH → Prop) (hs : x_X17_hopping a0 a1 a2 C K) : xMeti l yX17_hopping (ws_ yX17_hopping cX17_hopping 3 (some .int)) 2 43 0 0 C [.ref a0, .int a1, .ref a2] K := by
  intro D dT adK adV sz
  refine xEnter (own := RX17) (Qc := xQi D dT K) (by decide) rfl (by rfl) ?_
  intro p e s m args below meth c A ls X hnm hK hA hG hI hl
  have hx := X.1
  have hb := X.2.1
  have hts := X.2.2.2.2.1
  have hown := X.2.2.2.2.2.1
  have hl : lv_has ls 3 [(0, .ref a0), (1, .int a1), (2, .ref a2)] := hl
  unfold x_X17_hopping at hs
  refine lv_aload_n hx hb dX17_hopping_0 rfl (lv_at hl 2 rfl) ?_
  refine lv_bipush (v := 51) hx hb dX17_hopping_1 (by decide) ?_
  obtain ⟨h1, hs⟩ := hs
  obtain ⟨fh1, h1⟩ := xcl_spec h1
  refine x_gov hA hI (x_runV (As := [.int 51]) (rest := []) X hK hA hG hI h1 (q := (RX1, TX1, 2)) rfl rfl (xet_X1_runs l a2 51 _ _ hs) iX1_runs q1394 q1382 q1383 q95 ⟨(Nat.le_of_ble_eq_true rfl), (Nat.le_of_ble_eq_true rfl)⟩ rfl hl.1 rfl (Nat.le_of_ble_eq_true rfl) dX17_hopping_3 ⟨(Nat.le_of_ble_eq_true rfl), (Nat.le_of_ble_eq_true rfl)⟩) (fun C1 H locs hs9 hI => ?_)
  replace hs := hs9
  refine lv_aload_n hx hb dX17_hopping_6 rfl (lv_at hl 0 rfl) ?_
  refine lv_iload_n hx hb dX17_hopping_7 rfl (lv_at hl 1 rfl) ?_
  refine lv_aload_n hx hb dX17_hopping_8 rfl (lv_at hl 2 rfl) ?_
  obtain ⟨ch4, h4, gh4, hs⟩ := hs
  obtain ⟨fh4, h4⟩ := xcl_spec h4
  obtain ⟨ah4, gh4⟩ := x_aclH gh4
  refine x_goi hA hI (x_runSU (As := [.int a1, .ref a2]) (rest := []) X hK hA hG hI h4 gh4 (xet_X13_hopping l a0 a1 a2 _ _ hs) iX13_hopping (by decide) q1395 q1377 q765 q1375 q117 ⟨(Nat.le_of_ble_eq_true rfl), (Nat.le_of_ble_eq_true rfl)⟩ rfl hl.1 rfl (Nat.le_of_ble_eq_true rfl) dX17_hopping_9 ⟨(Nat.le_of_ble_eq_true rfl), (Nat.le_of_ble_eq_true rfl)⟩) (fun r4 C3 H locs hs9 hI => ?_)
  replace hs := hs9
  refine lv_aload_n hx hb dX17_hopping_12 rfl (lv_at hl 0 rfl) ?_
  obtain ⟨v6, ev6, hs⟩ := hs
  refine x_getH (v := .int v6) X hK hI 0 (by decide) q802 (x_same X q796) (xgi_spec ev6) dX17_hopping_13 ?_
  refine lv_isub hx hb dX17_hopping_16 ?_
  exact x_reti X hK hI hs (Nat.le_of_ble_eq_true rfl) (Nat.le_of_ble_eq_true rfl) dX17_hopping_17
def x_X19_hopping (a0 : Nat) (a1 : Int32) (a2 : Nat) (C : XH) (K : Int32 → XH → Prop) : Prop := (xcl C a2 = some 1 ∧ x_X1_runs a2 70 C (fun C1 => obd (xcl C1 a0) (fun ch4 => xisH ch4 = true ∧ x_X17_hopping a0 a1 a2 C1 (fun r4 C3 => K (r4 * 2) C3))))
theorem iX19_hopping : xInf yX19_hopping cX19_hopping 3 (some .int) 2 := ⟨q1398, by decide +kernel⟩
set_option maxHeartbeats 4000000 in
theorem xet_X19_hopping (l : Launch) (a0 : Nat) (a1 : Int32) (a2 : Nat) (C : XH) (K : Int32 → XH → Prop) (hs : x_X19_hopping a0 a1 a2 C K) : xMeti l yX19_hopping (ws_ yX19_hopping cX19_hopping 3 (some .int)) 3 65 0 0 C [.ref a0, .int a1, .ref a2] K := by
  intro D dT adK adV sz
  refine xEnter (own := RX19) (Qc := xQi D dT K) (by decide) rfl (by rfl) ?_
  intro p e s m args below meth c A ls X hnm hK hA hG hI hl
  have hx := X.1
  have hb := X.2.1
  have hts := X.2.2.2.2.1
  have hown := X.2.2.2.2.2.1
  have hl : lv_has ls 3 [(0, .ref a0), (1, .int a1), (2, .ref a2)] := hl
  unfold x_X19_hopping at hs
  refine lv_aload_n hx hb dX19_hopping_0 rfl (lv_at hl 2 rfl) ?_
  refine lv_bipush (v := 70) hx hb dX19_hopping_1 (by decide) ?_
  obtain ⟨h1, hs⟩ := hs
  obtain ⟨fh1, h1⟩ := xcl_spec h1
  refine x_gov hA hI (x_runV (As := [.int 70]) (rest := []) X hK hA hG hI h1 (q := (RX1, TX1, 2)) rfl rfl (xet_X1_runs l a2 70 _ _ hs) iX1_runs q1399 q1382 q1383 q95 ⟨(Nat.le_of_ble_eq_true rfl), (Nat.le_of_ble_eq_true rfl)⟩ rfl hl.1 rfl (Nat.le_of_ble_eq_true rfl) dX19_hopping_3 ⟨(Nat.le_of_ble_eq_true rfl), (Nat.le_of_ble_eq_true rfl)⟩) (fun C1 H locs hs9 hI => ?_)
  replace hs := hs9
  refine lv_aload_n hx hb dX19_hopping_6 rfl (lv_at hl 0 rfl) ?_
  refine lv_iload_n hx hb dX19_hopping_7 rfl (lv_at hl 1 rfl) ?_
  refine lv_aload_n hx hb dX19_hopping_8 rfl (lv_at hl 2 rfl) ?_
  obtain ⟨ch4, h4, gh4, hs⟩ := hs
  obtain ⟨fh4, h4⟩ := xcl_spec h4
  obtain ⟨ah4, gh4⟩ := x_aclH gh4
  refine x_goi hA hI (x_runSU (As := [.int a1, .ref a2]) (rest := []) X hK hA hG hI h4 gh4 (xet_X17_hopping l a0 a1 a2 _ _ hs) iX17_hopping (by decide) q1400 q2044 q738 q1392 q121 ⟨(Nat.le_of_ble_eq_true rfl), (Nat.le_of_ble_eq_true rfl)⟩ rfl hl.1 rfl (Nat.le_of_ble_eq_true rfl) dX19_hopping_9 ⟨(Nat.le_of_ble_eq_true rfl), (Nat.le_of_ble_eq_true rfl)⟩) (fun r4 C3 H locs hs9 hI => ?_)
  replace hs := hs9
  refine lv_iconst (v := 2) hx hb dX19_hopping_12 (by decide) ?_
  refine lv_imul hx hb dX19_hopping_13 ?_
  exact x_reti X hK hI hs (Nat.le_of_ble_eq_true rfl) (Nat.le_of_ble_eq_true rfl) dX19_hopping_14
def vd_X13_hopping (b : Nat) (a1 : Int32) (a2 : Nat) (C : XH) (K : Int32 → XH → Prop) : Prop := obd (xcl C b) (fun ci => if ci = 13 then x_X13_hopping b a1 a2 C K else if ci = 14 then x_X14_hopping b a1 a2 C K else if ci = 15 then x_X13_hopping b a1 a2 C K else if ci = 16 then x_X14_hopping b a1 a2 C K else if ci = 17 then x_X17_hopping b a1 a2 C K else if ci = 18 then x_X13_hopping b a1 a2 C K else if ci = 19 then x_X19_hopping b a1 a2 C K else False)
theorem vdc_X13_hopping {p : Program} {l : Launch} {e : Env} {R : Room} {s : State} {m : MethodId} {args : Array Value} {below : List Frame} {meth : Method} {c : Code} {H : Heap} {locs : List Loc} {cells slots : Nat} {own : String} {cc : ByteArray} {nL : Nat} {ret : Option FieldType} {pc : Nat} {ls : Array Slot} {rest : List Value} {D : va_G} {dT : Nat → ClassId} {adK adV : Nat → Nat} {A : Nat → Prop} {C : XH} {index : Nat} (X : xX p s m args meth c own cc nL ret) (hK : va_K D aCl (aT dT) s) (hA : ∀ q : Nat, s.heap.size ≤ q → A q) (hG : xG adK adV A s s.heap) (hI : xI D dT A s.heap C H locs) (b : Nat) (a1 : Int32) (a2 : Nat) (K : Int32 → XH → Prop) (hs : vd_X13_hopping b a1 a2 C K) (w1 : Cond.methodLink own index ⟨RX13, "hopping", "(ILInASackToTheRope$Trace;)I"⟩ ∈ lw_all) (hR : 3 + 1 ≤ R.frames ∧ 8 + (0 + 11) + 68 ≤ R.locals) (hsz : ls.size = nL) (hrm : (rest.map fun v => v.category).sum ≤ 8) (hdg : decode cc pc = .ok (.invokevirtual index, 3)) (hf : cells + 0 ≤ R.cells ∧ slots + 0 ≤ R.slots) : xCtx p l e R s m args below meth c H locs cells slots 0 0 D dT C pc ls ([.ref a2, .int a1] ++ .ref b :: rest) rest (fun D dT A => xQi D dT K A) (.ref b :: [.int a1, .ref a2]) := by
  obtain ⟨ci, hci, hs⟩ := hs
  obtain ⟨fs, hb⟩ := xcl_spec hci
  by_cases h13 : ci = 13
  · subst h13
    replace hs := ifp rfl hs
    exact x_runO (As := [.int a1, .ref a2]) X hK hA hG hI hb (q := (RX13, TX13, 2)) rfl (xet_X13_hopping l b a1 a2 _ _ hs) iX13_hopping RX13 w1 q1377 q1375 q1376 q1375 q117 q1386 (by decide +kernel) ⟨Nat.le_trans (Nat.le_of_ble_eq_true rfl) hR.1, Nat.le_trans (Nat.le_of_ble_eq_true rfl) hR.2⟩ rfl hsz rfl hrm hdg hf
  · replace hs := ifn h13 hs
    by_cases h14 : ci = 14
    · subst h14
      replace hs := ifp rfl hs
      exact x_runO (As := [.int a1, .ref a2]) X hK hA hG hI hb (q := (RX14, TX14, 2)) rfl (xet_X14_hopping l b a1 a2 _ _ hs) iX14_hopping RX13 w1 q1377 q1375 q1388 q1379 q118 q1386 (by decide +kernel) ⟨Nat.le_trans (Nat.le_of_ble_eq_true rfl) hR.1, Nat.le_trans (Nat.le_of_ble_eq_true rfl) hR.2⟩ rfl hsz rfl hrm hdg hf
    · replace hs := ifn h14 hs
      by_cases h15 : ci = 15
      · subst h15
        replace hs := ifp rfl hs
        exact x_runO (As := [.int a1, .ref a2]) X hK hA hG hI hb (q := (RX15, TX15, 2)) rfl (xet_X13_hopping l b a1 a2 _ _ hs) iX13_hopping RX13 w1 q1377 q1375 q1389 q1375 q117 q1386 (by decide +kernel) ⟨Nat.le_trans (Nat.le_of_ble_eq_true rfl) hR.1, Nat.le_trans (Nat.le_of_ble_eq_true rfl) hR.2⟩ rfl hsz rfl hrm hdg hf
      · replace hs := ifn h15 hs
        by_cases h16 : ci = 16
        · subst h16
          replace hs := ifp rfl hs
          exact x_runO (As := [.int a1, .ref a2]) X hK hA hG hI hb (q := (RX16, TX16, 2)) rfl (xet_X14_hopping l b a1 a2 _ _ hs) iX14_hopping RX13 w1 q1377 q1375 q1378 q1379 q118 q1386 (by decide +kernel) ⟨Nat.le_trans (Nat.le_of_ble_eq_true rfl) hR.1, Nat.le_trans (Nat.le_of_ble_eq_true rfl) hR.2⟩ rfl hsz rfl hrm hdg hf
        · replace hs := ifn h16 hs
          by_cases h17 : ci = 17
          · subst h17
            replace hs := ifp rfl hs
            exact x_runO (As := [.int a1, .ref a2]) X hK hA hG hI hb (q := (RX17, TX17, 2)) rfl (xet_X17_hopping l b a1 a2 _ _ hs) iX17_hopping RX13 w1 q1377 q1375 q1391 q1392 q121 q1386 (by decide +kernel) ⟨Nat.le_trans (Nat.le_of_ble_eq_true rfl) hR.1, Nat.le_trans (Nat.le_of_ble_eq_true rfl) hR.2⟩ rfl hsz rfl hrm hdg hf
          · replace hs := ifn h17 hs
            by_cases h18 : ci = 18
            · subst h18
              replace hs := ifp rfl hs
              exact x_runO (As := [.int a1, .ref a2]) X hK hA hG hI hb (q := (RX18, TX18, 2)) rfl (xet_X13_hopping l b a1 a2 _ _ hs) iX13_hopping RX13 w1 q1377 q1375 q1390 q1375 q117 q1386 (by decide +kernel) ⟨Nat.le_trans (Nat.le_of_ble_eq_true rfl) hR.1, Nat.le_trans (Nat.le_of_ble_eq_true rfl) hR.2⟩ rfl hsz rfl hrm hdg hf
            · replace hs := ifn h18 hs
              by_cases h19 : ci = 19
              · subst h19
                replace hs := ifp rfl hs
                exact x_runO (As := [.int a1, .ref a2]) X hK hA hG hI hb (q := (RX19, TX19, 2)) rfl (xet_X19_hopping l b a1 a2 _ _ hs) iX19_hopping RX13 w1 q1377 q1375 q1396 q1397 q123 q1386 (by decide +kernel) ⟨Nat.le_trans (Nat.le_of_ble_eq_true rfl) hR.1, Nat.le_trans (Nat.le_of_ble_eq_true rfl) hR.2⟩ rfl hsz rfl hrm hdg hf
              · replace hs := ifn h19 hs
                exact hs.elim
