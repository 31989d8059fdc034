set_option maxRecDepth 100000
def x_X0_legs_l33 (K : Int32 → XH → Prop) (a0 : Nat) (a1 : Int32) (a2 : Int32) : Nat → Int32 → XH → Prop
  | 0, _, _ => False
  | n33_11 + 1, x10, C11 => (if 9 < x10 then K (-1) C11 else obd (xgr C11 (xis 0) a0 6) (fun ad13 => obd (xgr C11 (xis 4) ad13 7) (fun ad14 => obd (xsi C11 ad14 a1 x10) (fun C15 => obd (xgr C15 (xis 0) a0 3) (fun ad16 => obd (xgr C15 (xis 0) a0 6) (fun ad17 => (xcl C15 ad16 = some 2 ∧ x_X2_of ad16 ad17 a1 C15 (fun ad19 C18 => (xcl C18 ad19 = some 2 ∧ x_X2_comesIn ad19 C18 (fun r22 C21 => (if a2 < r22 then x_X0_legs_l33 K a0 a1 a2 n33_11 (x10 + 1) C21 else K x10 C21)))))))))))
theorem x_X0_legs_l33_s (K : Int32 → XH → Prop) (a0 : Nat) (a1 : Int32) (a2 : Int32) (n33_11 : Nat) (x10 : Int32) (C11 : XH) : x_X0_legs_l33 K a0 a1 a2 (n33_11 + 1) x10 C11 = ((if 9 < x10 then K (-1) C11 else obd (xgr C11 (xis 0) a0 6) (fun ad13 => obd (xgr C11 (xis 4) ad13 7) (fun ad14 => obd (xsi C11 ad14 a1 x10) (fun C15 => obd (xgr C15 (xis 0) a0 3) (fun ad16 => obd (xgr C15 (xis 0) a0 6) (fun ad17 => (xcl C15 ad16 = some 2 ∧ x_X2_of ad16 ad17 a1 C15 (fun ad19 C18 => (xcl C18 ad19 = some 2 ∧ x_X2_comesIn ad19 C18 (fun r22 C21 => (if a2 < r22 then x_X0_legs_l33 K a0 a1 a2 n33_11 (x10 + 1) C21 else K x10 C21)))))))))))) := rfl
def x_X0_legs (a0 : Nat) (a1 : Int32) (a2 : Int32) (C : XH) (K : Int32 → XH → Prop) : Prop := (xcl C a0 = some 0 ∧ x_X0_mustChild a0 a1 C (fun C1 => jn (fun (v3 : Int32) => x_X0_need v3 (-6) C1 (fun C4 => obd (xgr C4 (xis 0) a0 6) (fun ad5 => obd (xgr C4 (xis 0) a0 7) (fun ad6 => (xcl C4 ad5 = some 4 ∧ x_X4_take ad5 ad6 C4 (fun ad8 C7 => x_X0_legs_l33 K a0 a1 a2 NF 1 C7))))) (fun ad26 C27 => (xcl C27 a0 = some 0 ∧ x_X0_refused a0 ad26 C27 (fun r29 C28 => K (r29 - 10) C28)))) (fun k14_3 => (if a2 < 0 then k14_3 0 else k14_3 1))) (fun ad32 C33 => (xcl C33 a0 = some 0 ∧ x_X0_refused a0 ad32 C33 (fun r35 C34 => K (r35 - 10) C34))))
theorem iX0_legs : xInfW yX0_legs cX0_legs 4 (some .int) [(0, 69, 78, 21), (70, 77, 78, 21)] 2 := ⟨q1318, by decide +kernel⟩
set_option maxHeartbeats 4000000 in
theorem xet_X0_legs (l : Launch) (hl0 : l.stackTraces = false) (a0 : Nat) (a1 : Int32) (a2 : Int32) (C : XH) (K : Int32 → XH → Prop) (hs : x_X0_legs a0 a1 a2 C K) : xMetX l yX0_legs (wsW_ yX0_legs cX0_legs 4 (some .int) [(0, 69, 78, 21), (70, 77, 78, 21)]) 8 221 2 14 C [.ref a0, .int a1, .int a2] (fun D dT A => xQi D dT K A) xE0 := by
  intro D dT adK adV sz
  refine xEnterW (own := RX0) (Qc := xQi D dT K) (XC := xXC D dT xE0) (by decide) rfl (by rfl) ?_
  intro p e s m args below meth c A ls X hnm hK hA hG hT hI hl
  have hx := X.1
  have hb := X.2.1
  have hts := X.2.2.2.2.1
  have hown := X.2.2.2.2.2.1
  have hl : lv_has ls 4 [(0, .ref a0), (1, .int a1), (2, .int a2)] := hl
  unfold x_X0_legs at hs
  refine lv_aload_n hx hb dX0_legs_0 rfl (lv_at hl 0 rfl) ?_
  refine lv_iload_n hx hb dX0_legs_1 rfl (lv_at hl 1 rfl) ?_
  obtain ⟨h1, hs⟩ := hs
  obtain ⟨fh1, h1⟩ := xcl_spec h1
  refine xT_gov hA hI (x_runVT (As := [.int a1]) (rest := []) X hK hA hG hI h1 (q := (RX0, TX0, 10)) rfl rfl (xet_X0_mustChild l hl0 a0 a1 _ _ _ hs) iX0_mustChild q649 q651 qs3 q94 ⟨(Nat.le_of_ble_eq_true rfl), (Nat.le_of_ble_eq_true rfl)⟩ rfl hl.1 rfl (Nat.le_of_ble_eq_true rfl) dX0_legs_2 ⟨(Nat.le_of_ble_eq_true rfl), (Nat.le_of_ble_eq_true rfl)⟩) (fun En ce ad32 C33 H locs hs9 hI hce hvm hcl => ?_) (fun C1 H locs hs9 hI => ?_)
  · obtain ⟨rfl, hs0⟩ := hs9
    replace hs := hs0
    refine x_catch (k := 0) (a1 := 0) (a2 := 69) (a3 := 78) (a4 := 21) X hG hT rfl (x_cov rfl) rfl (by decide) q363 (by decide) hce hvm hcl ?_
    refine lv_astore_n (lv' := [(3, .ref ad32), (0, .ref a0), (1, .int a1), (2, .int a2)]) hx hb dX0_legs_78 rfl hl (by decide) rfl (fun ls hl => ?_)
    refine lv_aload_n hx hb dX0_legs_79 rfl (lv_at hl 1 rfl) ?_
    refine lv_aload_n hx hb dX0_legs_80 rfl (lv_at hl 0 rfl) ?_
    obtain ⟨h35, hs⟩ := hs
    obtain ⟨fh35, h35⟩ := xcl_spec h35
    refine x_goi hA hI (x_runV (As := [.ref ad32]) (rest := []) X hK hA hG hI h35 (q := (RX0, TX0, 10)) rfl rfl (xet_X0_refused l a0 ad32 _ _ hs) iX0_refused q538 q540 qs2 q94 ⟨(Nat.le_of_ble_eq_true rfl), (Nat.le_of_ble_eq_true rfl)⟩ rfl hl.1 rfl (Nat.le_of_ble_eq_true rfl) dX0_legs_81 ⟨(Nat.le_of_ble_eq_true rfl), (Nat.le_of_ble_eq_true rfl)⟩) (fun r35 C34 H locs hs9 hI => ?_)
    replace hs := hs9
    refine lv_bipush (v := 10) hx hb dX0_legs_84 (by decide) ?_
    refine lv_isub hx hb dX0_legs_86 ?_
    exact vx_ret (x_reti X hK hI hs (Nat.le_of_ble_eq_true rfl) (Nat.le_of_ble_eq_true rfl) dX0_legs_87)
  · replace hs := hs9
    refine lv_iload_n hx hb dX0_legs_5 rfl (lv_at hl 2 rfl) ?_
    obtain ⟨k14_3, hk14_3, hs⟩ := jn_ex hs
    have Ek14_3 : ∀ (v3 : Int32) (H : Heap) (locs : List Loc) (ls : Array Slot), k14_3 v3 → xI D dT A s.heap C1 H locs → lv_has ls 4 [(0, .ref a0), (1, .int a1), (2, .int a2)] → W p l e (xRm 8 221 2 14) s m args below meth c H locs 1 7 (vx_MQ below (xQi D dT K A) (xXC D dT xE0 A) args s 2 14 A) (F0 m 14 ls [.int v3]) := by
      intro v3 H locs ls hs hI hl
      rw [hk14_3] at hs
      refine lv_bipush (v := (-6)) hx hb dX0_legs_14 (by decide) ?_
      refine xT_gov hA hI (x_runST (As := [.int v3, .int (-6)]) (rest := []) X hK hA hG hI (xet_X0_need l hl0 v3 (-6) _ _ _ hs) iX0_need q469 q470 q94 ⟨(Nat.le_of_ble_eq_true rfl), (Nat.le_of_ble_eq_true rfl)⟩ rfl hl.1 rfl (Nat.le_of_ble_eq_true rfl) dX0_legs_16 ⟨(Nat.le_of_ble_eq_true rfl), (Nat.le_of_ble_eq_true rfl)⟩) (fun En ce ad26 C27 H locs hs9 hI hce hvm hcl => ?_) (fun C4 H locs hs9 hI => ?_)
      · obtain ⟨rfl, hs0⟩ := hs9
        replace hs := hs0
        refine x_catch (k := 0) (a1 := 0) (a2 := 69) (a3 := 78) (a4 := 21) X hG hT rfl (x_cov rfl) rfl (by decide) q363 (by decide) hce hvm hcl ?_
        refine lv_astore_n (lv' := [(3, .ref ad26), (0, .ref a0), (1, .int a1), (2, .int a2)]) hx hb dX0_legs_78 rfl hl (by decide) rfl (fun ls hl => ?_)
        refine lv_aload_n hx hb dX0_legs_79 rfl (lv_at hl 1 rfl) ?_
        refine lv_aload_n hx hb dX0_legs_80 rfl (lv_at hl 0 rfl) ?_
        obtain ⟨h29, hs⟩ := hs
        obtain ⟨fh29, h29⟩ := xcl_spec h29
        refine x_goi hA hI (x_runV (As := [.ref ad26]) (rest := []) X hK hA hG hI h29 (q := (RX0, TX0, 10)) rfl rfl (xet_X0_refused l a0 ad26 _ _ hs) iX0_refused q538 q540 qs2 q94 ⟨(Nat.le_of_ble_eq_true rfl), (Nat.le_of_ble_eq_true rfl)⟩ rfl hl.1 rfl (Nat.le_of_ble_eq_true rfl) dX0_legs_81 ⟨(Nat.le_of_ble_eq_true rfl), (Nat.le_of_ble_eq_true rfl)⟩) (fun r29 C28 H locs hs9 hI => ?_)
        replace hs := hs9
        refine lv_bipush (v := 10) hx hb dX0_legs_84 (by decide) ?_
        refine lv_isub hx hb dX0_legs_86 ?_
        exact vx_ret (x_reti X hK hI hs (Nat.le_of_ble_eq_true rfl) (Nat.le_of_ble_eq_true rfl) dX0_legs_87)
      · replace hs := hs9
        refine lv_aload_n hx hb dX0_legs_19 rfl (lv_at hl 0 rfl) ?_
        obtain ⟨ad5, ead5, hs⟩ := hs
        refine x_get (v := .ref ad5) X hK hI 0 6 rfl in_X0 rfl q334 rfl (xgr_spec ead5) dX0_legs_20 ?_
        refine lv_aload_n hx hb dX0_legs_23 rfl (lv_at hl 0 rfl) ?_
        obtain ⟨ad6, ead6, hs⟩ := hs
        refine x_get (v := .ref ad6) X hK hI 0 7 rfl in_X0 rfl q335 rfl (xgr_spec ead6) dX0_legs_24 ?_
        obtain ⟨h8, hs⟩ := hs
        obtain ⟨fh8, h8⟩ := xcl_spec h8
        refine x_gor hA hI (x_runV (As := [.ref ad6]) (rest := []) X hK hA hG hI h8 (q := (RX4, TX4, 13)) rfl rfl (xet_X4_take l ad5 ad6 _ _ hs) iX4_take q949 q950 q951 q98 ⟨(Nat.le_of_ble_eq_true rfl), (Nat.le_of_ble_eq_true rfl)⟩ rfl hl.1 rfl (Nat.le_of_ble_eq_true rfl) dX0_legs_27 ⟨(Nat.le_of_ble_eq_true rfl), (Nat.le_of_ble_eq_true rfl)⟩) (fun ad8 C7 H locs hs9 hI => ?_)
        replace hs := hs9
        refine lv_pop hx hb dX0_legs_30 rfl ?_
        refine lv_iconst (v := 1) hx hb dX0_legs_31 (by decide) ?_
        refine lv_istore_n (lv' := [(3, .int 1), (0, .ref a0), (1, .int a1), (2, .int a2)]) hx hb dX0_legs_32 rfl hl (by decide) rfl (fun ls hl => ?_)
        have Lx_X0_legs_l33 : ∀ (n33_11 : Nat) (x10 : Int32) (C11 : XH) (H : Heap) (locs : List Loc) (ls : Array Slot), x_X0_legs_l33 K a0 a1 a2 n33_11 x10 C11 → xI D dT A s.heap C11 H locs → lv_has ls 4 [(0, .ref a0), (1, .int a1), (2, .int a2), (3, .int x10)] → W p l e (xRm 8 221 2 14) s m args below meth c H locs 2 14 (vx_MQ below (xQi D dT K A) (xXC D dT xE0 A) args s 2 14 A) (F0 m 33 ls []) := by
          intro n33_11
          induction n33_11 with
          | zero =>
            intro x10 C11 H locs ls hs
            exact False.elim hs
          | succ n33_11 ihx_X0_legs_l33 =>
            intro x10 C11 H locs ls hs hI hl
            rw [x_X0_legs_l33_s] at hs
            refine lv_iload_n hx hb dX0_legs_33 rfl (lv_at hl 3 rfl) ?_
            refine lv_bipush (v := 9) hx hb dX0_legs_34 (by decide) ?_
            refine lv_icmp_gt (tgt := 76) hx hb dX0_legs_36 (by decide) (fun c24 => ?_) (fun c24 => ?_)
            · replace hs := ifp c24 hs
              refine lv_iconst (v := (-1)) hx hb dX0_legs_76 (by decide) ?_
              exact vx_ret (x_reti X hK hI hs (Nat.le_of_ble_eq_true rfl) (Nat.le_of_ble_eq_true rfl) dX0_legs_77)
            · replace hs := ifn c24 hs
              refine lv_aload_n hx hb dX0_legs_39 rfl (lv_at hl 0 rfl) ?_
              obtain ⟨ad13, ead13, hs⟩ := hs
              refine x_get (v := .ref ad13) X hK hI 0 6 rfl in_X0 rfl q334 rfl (xgr_spec ead13) dX0_legs_40 ?_
              obtain ⟨ad14, ead14, hs⟩ := hs
              refine x_get (v := .ref ad14) X hK hI 4 7 rfl in_X4 rfl q276 rfl (xgr_spec ead14) dX0_legs_43 ?_
              refine lv_iload_n hx hb dX0_legs_46 rfl (lv_at hl 1 rfl) ?_
              refine lv_iload_n hx hb dX0_legs_47 rfl (lv_at hl 3 rfl) ?_
              obtain ⟨C15, eC15, hs⟩ := hs
              refine x_iast X hK hI eC15 dX0_legs_48 (fun H locs hI => ?_)
              refine lv_aload_n hx hb dX0_legs_49 rfl (lv_at hl 0 rfl) ?_
              obtain ⟨ad16, ead16, hs⟩ := hs
              refine x_get (v := .ref ad16) X hK hI 0 3 rfl in_X0 rfl q331 rfl (xgr_spec ead16) dX0_legs_50 ?_
              refine lv_aload_n hx hb dX0_legs_53 rfl (lv_at hl 0 rfl) ?_
              obtain ⟨ad17, ead17, hs⟩ := hs
              refine x_get (v := .ref ad17) X hK hI 0 6 rfl in_X0 rfl q334 rfl (xgr_spec ead17) dX0_legs_54 ?_
              refine lv_iload_n hx hb dX0_legs_57 rfl (lv_at hl 1 rfl) ?_
              obtain ⟨h19, hs⟩ := hs
              obtain ⟨fh19, h19⟩ := xcl_spec h19
              refine x_gor hA hI (x_runV (As := [.ref ad17, .int a1]) (rest := []) X hK hA hG hI h19 (q := (RX2, TX2, 12)) rfl rfl (xet_X2_of l ad16 ad17 a1 _ _ hs) iX2_of q1136 q1137 q1138 q96 ⟨(Nat.le_of_ble_eq_true rfl), (Nat.le_of_ble_eq_true rfl)⟩ rfl hl.1 rfl (Nat.le_of_ble_eq_true rfl) dX0_legs_58 ⟨(Nat.le_of_ble_eq_true rfl), (Nat.le_of_ble_eq_true rfl)⟩) (fun ad19 C18 H locs hs9 hI => ?_)
              replace hs := hs9
              obtain ⟨h22, hs⟩ := hs
              obtain ⟨fh22, h22⟩ := xcl_spec h22
              refine x_goi hA hI (x_runV (As := []) (rest := []) X hK hA hG hI h22 (q := (RX2, TX2, 12)) rfl rfl (xet_X2_comesIn l ad19 _ _ hs) iX2_comesIn q1197 q1198 q1199 q96 ⟨(Nat.le_of_ble_eq_true rfl), (Nat.le_of_ble_eq_true rfl)⟩ rfl hl.1 rfl (Nat.le_of_ble_eq_true rfl) dX0_legs_61 ⟨(Nat.le_of_ble_eq_true rfl), (Nat.le_of_ble_eq_true rfl)⟩) (fun r22 C21 H locs hs9 hI => ?_)
              replace hs := hs9
              refine lv_iload_n hx hb dX0_legs_64 rfl (lv_at hl 2 rfl) ?_
              refine lv_icmp_gt (tgt := 70) hx hb dX0_legs_65 (by decide) (fun c23 => ?_) (fun c23 => ?_)
              · replace hs := ifp c23 hs
                refine lv_iinc (v := (x10 + 1)) (lv' := [(3, .int (x10 + 1)), (0, .ref a0), (1, .int a1), (2, .int a2)]) hx hb dX0_legs_70 hl (k := 3) rfl (congrArg (fun z => x10 + z) (show Int32.ofInt (1) = 1 by decide)) (by decide) rfl (fun ls hl => ?_)
                refine lv_goto (tgt := 33) hx hb dX0_legs_73 (by decide) ?_
                exact ihx_X0_legs_l33 _ _ _ _ _ hs hI (lv_sub hl [1, 2, 3, 0] rfl)
              · replace hs := ifn c23 hs
                refine lv_iload_n hx hb dX0_legs_68 rfl (lv_at hl 3 rfl) ?_
                exact vx_ret (x_reti X hK hI hs (Nat.le_of_ble_eq_true rfl) (Nat.le_of_ble_eq_true rfl) dX0_legs_69)
        exact Lx_X0_legs_l33 NF _ _ _ _ _ hs hI (lv_sub hl [1, 2, 3, 0] rfl)
    refine lv_if_lt (tgt := 13) hx hb dX0_legs_6 (by decide) (fun c30 => ?_) (fun c30 => ?_)
    · replace hs := ifp c30 hs
      refine lv_iconst (v := 0) hx hb dX0_legs_13 (by decide) ?_
      exact Ek14_3 _ _ _ _ hs hI hl
    · replace hs := ifn c30 hs
      refine lv_iconst (v := 1) hx hb dX0_legs_9 (by decide) ?_
      refine lv_goto (tgt := 14) hx hb dX0_legs_10 (by decide) ?_
      exact Ek14_3 _ _ _ _ hs hI hl
def x_X0_wall (a0 : Nat) (a1 : Int32) (C : XH) (K : Int32 → XH → Prop) : Prop := (xcl C a0 = some 0 ∧ x_X0_mustChild a0 a1 C (fun C1 => obd (xgr C1 (xis 0) a0 3) (fun ad3 => obd (xgr C1 (xis 0) a0 7) (fun ad4 => (xcl C1 ad3 = some 2 ∧ x_X2_of ad3 ad4 a1 C1 (fun ad6 C5 => (xcl C5 ad6 = some 2 ∧ x_X2_passesMany ad6 999 C5 (fun ad9 C8 => obd (xgi C8 (xis 2) ad9 10) (fun v11 => K v11 C8)))))))) (fun ad12 C13 => (xcl C13 a0 = some 0 ∧ x_X0_refused a0 ad12 C13 (fun r15 C14 => K (r15 - 10) C14))))
theorem iX0_wall : xInfW yX0_wall cX0_wall 3 (some .int) [(0, 26, 27, 21)] 1 := ⟨q1322, by decide +kernel⟩
set_option maxHeartbeats 4000000 in
theorem xet_X0_wall (l : Launch) (hl0 : l.stackTraces = false) (a0 : Nat) (a1 : Int32) (C : XH) (K : Int32 → XH → Prop) (hs : x_X0_wall a0 a1 C K) : xMetX l yX0_wall (wsW_ yX0_wall cX0_wall 3 (some .int) [(0, 26, 27, 21)]) 8 182 1 7 C [.ref a0, .int a1] (fun D dT A => xQi D dT K A) xE0 := by
  intro D dT adK adV sz
  refine xEnterW (own := RX0) (Qc := xQi D dT K) (XC := xXC D dT xE0) (by decide) rfl (by rfl) ?_
  intro p e s m args below meth c A ls X hnm hK hA hG hT hI hl
  have hx := X.1
  have hb := X.2.1
  have hts := X.2.2.2.2.1
  have hown := X.2.2.2.2.2.1
  have hl : lv_has ls 3 [(0, .ref a0), (1, .int a1)] := hl
  unfold x_X0_wall at hs
  refine lv_aload_n hx hb dX0_wall_0 rfl (lv_at hl 0 rfl) ?_
  refine lv_iload_n hx hb dX0_wall_1 rfl (lv_at hl 1 rfl) ?_
  obtain ⟨h1, hs⟩ := hs
  obtain ⟨fh1, h1⟩ := xcl_spec h1
  refine xT_gov hA hI (x_runVT (As := [.int a1]) (rest := []) X hK hA hG hI h1 (q := (RX0, TX0, 10)) rfl rfl (xet_X0_mustChild l hl0 a0 a1 _ _ _ hs) iX0_mustChild q649 q651 qs3 q94 ⟨(Nat.le_of_ble_eq_true rfl), (Nat.le_of_ble_eq_true rfl)⟩ rfl hl.1 rfl (Nat.le_of_ble_eq_true rfl) dX0_wall_2 ⟨(Nat.le_of_ble_eq_true rfl), (Nat.le_of_ble_eq_true rfl)⟩) (fun En ce ad12 C13 H locs hs9 hI hce hvm hcl => ?_) (fun C1 H locs hs9 hI => ?_)
  · obtain ⟨rfl, hs0⟩ := hs9
    replace hs := hs0
    refine x_catch (k := 0) (a1 := 0) (a2 := 26) (a3 := 27) (a4 := 21) X hG hT rfl (x_cov rfl) rfl (by decide) q363 (by decide) hce hvm hcl ?_
    refine lv_astore_n (lv' := [(2, .ref ad12), (0, .ref a0), (1, .int a1)]) hx hb dX0_wall_27 rfl hl (by decide) rfl (fun ls hl => ?_)
    refine lv_aload_n hx hb dX0_wall_28 rfl (lv_at hl 1 rfl) ?_
    refine lv_aload_n hx hb dX0_wall_29 rfl (lv_at hl 0 rfl) ?_
    obtain ⟨h15, hs⟩ := hs
    obtain ⟨fh15, h15⟩ := xcl_spec h15
    refine x_goi hA hI (x_runV (As := [.ref ad12]) (rest := []) X hK hA hG hI h15 (q := (RX0, TX0, 10)) rfl rfl (xet_X0_refused l a0 ad12 _ _ hs) iX0_refused q538 q540 qs2 q94 ⟨(Nat.le_of_ble_eq_true rfl), (Nat.le_of_ble_eq_true rfl)⟩ rfl hl.1 rfl (Nat.le_of_ble_eq_true rfl) dX0_wall_30 ⟨(Nat.le_of_ble_eq_true rfl), (Nat.le_of_ble_eq_true rfl)⟩) (fun r15 C14 H locs hs9 hI => ?_)
    replace hs := hs9
    refine lv_bipush (v := 10) hx hb dX0_wall_33 (by decide) ?_
    refine lv_isub hx hb dX0_wall_35 ?_
    exact vx_ret (x_reti X hK hI hs (Nat.le_of_ble_eq_true rfl) (Nat.le_of_ble_eq_true rfl) dX0_wall_36)
  · replace hs := hs9
    refine lv_aload_n hx hb dX0_wall_5 rfl (lv_at hl 0 rfl) ?_
    obtain ⟨ad3, ead3, hs⟩ := hs
    refine x_get (v := .ref ad3) X hK hI 0 3 rfl in_X0 rfl q331 rfl (xgr_spec ead3) dX0_wall_6 ?_
    refine lv_aload_n hx hb dX0_wall_9 rfl (lv_at hl 0 rfl) ?_
    obtain ⟨ad4, ead4, hs⟩ := hs
    refine x_get (v := .ref ad4) X hK hI 0 7 rfl in_X0 rfl q335 rfl (xgr_spec ead4) dX0_wall_10 ?_
    refine lv_iload_n hx hb dX0_wall_13 rfl (lv_at hl 1 rfl) ?_
    obtain ⟨h6, hs⟩ := hs
    obtain ⟨fh6, h6⟩ := xcl_spec h6
    refine x_gor hA hI (x_runV (As := [.ref ad4, .int a1]) (rest := []) X hK hA hG hI h6 (q := (RX2, TX2, 12)) rfl rfl (xet_X2_of l ad3 ad4 a1 _ _ hs) iX2_of q1136 q1137 q1138 q96 ⟨(Nat.le_of_ble_eq_true rfl), (Nat.le_of_ble_eq_true rfl)⟩ rfl hl.1 rfl (Nat.le_of_ble_eq_true rfl) dX0_wall_14 ⟨(Nat.le_of_ble_eq_true rfl), (Nat.le_of_ble_eq_true rfl)⟩) (fun ad6 C5 H locs hs9 hI => ?_)
    replace hs := hs9
    refine lv_sipush (v := 999) hx hb dX0_wall_17 (by decide) ?_
    obtain ⟨h9, hs⟩ := hs
    obtain ⟨fh9, h9⟩ := xcl_spec h9
    refine x_gor hA hI (x_runV (As := [.int 999]) (rest := []) X hK hA hG hI h9 (q := (RX2, TX2, 12)) rfl rfl (xet_X2_passesMany l ad6 999 _ _ hs) iX2_passesMany q1154 q1155 q1156 q96 ⟨(Nat.le_of_ble_eq_true rfl), (Nat.le_of_ble_eq_true rfl)⟩ rfl hl.1 rfl (Nat.le_of_ble_eq_true rfl) dX0_wall_20 ⟨(Nat.le_of_ble_eq_true rfl), (Nat.le_of_ble_eq_true rfl)⟩) (fun ad9 C8 H locs hs9 hI => ?_)
    replace hs := hs9
    obtain ⟨v11, ev11, hs⟩ := hs
    refine x_get (v := .int v11) X hK hI 2 10 rfl in_X2 rfl q178 rfl (xgi_spec ev11) dX0_wall_23 ?_
    exact vx_ret (x_reti X hK hI hs (Nat.le_of_ble_eq_true rfl) (Nat.le_of_ble_eq_true rfl) dX0_wall_26)
def x_X0_wrongIn_l8 (K : Int32 → XH → Prop) (a0 : Nat) (a1 : Nat) (a2 : Int32) : Nat → Int32 → Int32 → Int32 → XH → Prop
  | 0, _, _, _, _ => False
  | n8_4 + 1, x1, x2, x3, C4 => (if a2 ≤ x3 then K (-1) C4 else vd_X8_asInt a1 x3 C4 (fun r7 C6 => obd (xgr C6 (xis 0) a0 7) (fun ad8 => (xcl C6 ad8 = some 4 ∧ x_X4_isChild ad8 r7 C6 (fun r10 C9 => (if r10 = 0 then K x3 C9 else (if ((x1 >>> (r7 &&& 31)) &&& 1) = 0 then (xcl C9 a0 = some 0 ∧ x_X0_timeOf a0 r7 C9 (fun r13 C12 => (if r13 < x2 then K x3 C12 else (xcl C12 a0 = some 0 ∧ x_X0_timeOf a0 r7 C12 (fun r16 C15 => x_X0_wrongIn_l8 K a0 a1 a2 n8_4 (x1 ||| (1 <<< (r7 &&& 31))) r16 (x3 + 1) C15))))) else K x3 C9)))))))
theorem x_X0_wrongIn_l8_s (K : Int32 → XH → Prop) (a0 : Nat) (a1 : Nat) (a2 : Int32) (n8_4 : Nat) (x1 : Int32) (x2 : Int32) (x3 : Int32) (C4 : XH) : x_X0_wrongIn_l8 K a0 a1 a2 (n8_4 + 1) x1 x2 x3 C4 = ((if a2 ≤ x3 then K (-1) C4 else vd_X8_asInt a1 x3 C4 (fun r7 C6 => obd (xgr C6 (xis 0) a0 7) (fun ad8 => (xcl C6 ad8 = some 4 ∧ x_X4_isChild ad8 r7 C6 (fun r10 C9 => (if r10 = 0 then K x3 C9 else (if ((x1 >>> (r7 &&& 31)) &&& 1) = 0 then (xcl C9 a0 = some 0 ∧ x_X0_timeOf a0 r7 C9 (fun r13 C12 => (if r13 < x2 then K x3 C12 else (xcl C12 a0 = some 0 ∧ x_X0_timeOf a0 r7 C12 (fun r16 C15 => x_X0_wrongIn_l8 K a0 a1 a2 n8_4 (x1 ||| (1 <<< (r7 &&& 31))) r16 (x3 + 1) C15))))) else K x3 C9)))))))) := rfl
def x_X0_wrongIn (a0 : Nat) (a1 : Nat) (a2 : Int32) (C : XH) (K : Int32 → XH → Prop) : Prop := x_X0_wrongIn_l8 K a0 a1 a2 NF 0 0 0 C
theorem iX0_wrongIn : xInf yX0_wrongIn cX0_wrongIn 7 (some .int) 2 := ⟨q1331, by decide +kernel⟩
set_option maxHeartbeats 4000000 in
theorem xet_X0_wrongIn (l : Launch) (a0 : Nat) (a1 : Nat) (a2 : Int32) (C : XH) (K : Int32 → XH → Prop) (hs : x_X0_wrongIn a0 a1 a2 C K) : xMeti l yX0_wrongIn (ws_ yX0_wrongIn cX0_wrongIn 7 (some .int)) 9 203 0 0 C [.ref a0, .ref a1, .int a2] K := by
  intro D dT adK adV sz
  refine xEnter (own := RX0) (Qc := xQi D dT K) (by decide) rfl (by rfl) ?_
  intro p e s m args below meth c A ls X hnm hK hA hG hI hl
  have hx := X.1
  have hb := X.2.1
  have hts := X.2.2.2.2.1
  have hown := X.2.2.2.2.2.1
  have hl : lv_has ls 7 [(0, .ref a0), (1, .ref a1), (2, .int a2)] := hl
  unfold x_X0_wrongIn at hs
  refine lv_iconst (v := 0) hx hb dX0_wrongIn_0 (by decide) ?_
  refine lv_istore_n (lv' := [(3, .int 0), (0, .ref a0), (1, .ref a1), (2, .int a2)]) hx hb dX0_wrongIn_1 rfl hl (by decide) rfl (fun ls hl => ?_)
  refine lv_iconst (v := 0) hx hb dX0_wrongIn_2 (by decide) ?_
  refine lv_istore (lv' := [(4, .int 0), (3, .int 0), (0, .ref a0), (1, .ref a1), (2, .int a2)]) hx hb dX0_wrongIn_3 hl (by decide) rfl (fun ls hl => ?_)
  refine lv_iconst (v := 0) hx hb dX0_wrongIn_5 (by decide) ?_
  refine lv_istore (lv' := [(5, .int 0), (4, .int 0), (3, .int 0), (0, .ref a0), (1, .ref a1), (2, .int a2)]) hx hb dX0_wrongIn_6 hl (by decide) rfl (fun ls hl => ?_)
  have Lx_X0_wrongIn_l8 : ∀ (n8_4 : Nat) (x1 : Int32) (x2 : Int32) (x3 : Int32) (C4 : XH) (H : Heap) (locs : List Loc) (ls : Array Slot), x_X0_wrongIn_l8 K a0 a1 a2 n8_4 x1 x2 x3 C4 → xI D dT A s.heap C4 H locs → lv_has ls 7 [(0, .ref a0), (1, .ref a1), (2, .int a2), (3, .int x1), (4, .int x2), (5, .int x3)] → W p l e (xRm 9 203 0 0) s m args below meth c H locs 0 0 (MQ below (xQi D dT K A) args s 0 0 A) (F0 m 8 ls []) := by
    intro n8_4
    induction n8_4 with
    | zero =>
      intro x1 x2 x3 C4 H locs ls hs
      exact False.elim hs
    | succ n8_4 ihx_X0_wrongIn_l8 =>
      intro x1 x2 x3 C4 H locs ls hs hI hl
      rw [x_X0_wrongIn_l8_s] at hs
      refine lv_iload hx hb dX0_wrongIn_8 (lv_at hl 5 rfl) ?_
      refine lv_iload_n hx hb dX0_wrongIn_10 rfl (lv_at hl 2 rfl) ?_
      refine lv_icmp_ge (tgt := 81) hx hb dX0_wrongIn_11 (by decide) (fun c20 => ?_) (fun c20 => ?_)
      · replace hs := ifp c20 hs
        refine lv_iconst (v := (-1)) hx hb dX0_wrongIn_81 (by decide) ?_
        exact x_reti X hK hI hs (Nat.le_of_ble_eq_true rfl) (Nat.le_of_ble_eq_true rfl) dX0_wrongIn_82
      · replace hs := ifn c20 hs
        refine lv_aload_n hx hb dX0_wrongIn_14 rfl (lv_at hl 1 rfl) ?_
        refine lv_iload hx hb dX0_wrongIn_15 (lv_at hl 5 rfl) ?_
        refine x_goi hA hI (vdc_X8_asInt (rest := []) X hK hA hG hI a1 x3 _ hs q1332 ⟨(Nat.le_of_ble_eq_true rfl), (Nat.le_of_ble_eq_true rfl)⟩ hl.1 (Nat.le_of_ble_eq_true rfl) dX0_wrongIn_17 ⟨(Nat.le_of_ble_eq_true rfl), (Nat.le_of_ble_eq_true rfl)⟩) (fun r7 C6 H locs hs9 hI => ?_)
        replace hs := hs9
        refine lv_istore (lv' := [(6, .int r7), (0, .ref a0), (1, .ref a1), (2, .int a2), (3, .int x1), (4, .int x2), (5, .int x3)]) hx hb dX0_wrongIn_20 hl (by decide) rfl (fun ls hl => ?_)
        refine lv_aload_n hx hb dX0_wrongIn_22 rfl (lv_at hl 1 rfl) ?_
        obtain ⟨ad8, ead8, hs⟩ := hs
        refine x_get (v := .ref ad8) X hK hI 0 7 rfl in_X0 rfl q335 rfl (xgr_spec ead8) dX0_wrongIn_23 ?_
        refine lv_iload hx hb dX0_wrongIn_26 (lv_at hl 0 rfl) ?_
        obtain ⟨h10, hs⟩ := hs
        obtain ⟨fh10, h10⟩ := xcl_spec h10
        refine x_goz hA hI (x_runV (As := [.int r7]) (rest := []) X hK hA hG hI h10 (q := (RX4, TX4, 13)) rfl rfl (xet_X4_isChild l ad8 r7 _ _ hs) iX4_isChild q653 q654 q655 q98 ⟨(Nat.le_of_ble_eq_true rfl), (Nat.le_of_ble_eq_true rfl)⟩ rfl hl.1 rfl (Nat.le_of_ble_eq_true rfl) dX0_wrongIn_28 ⟨(Nat.le_of_ble_eq_true rfl), (Nat.le_of_ble_eq_true rfl)⟩) (fun r10 C9 H locs br10 hs9 hI => ?_)
        replace hs := hs9
        refine lv_if_eq (tgt := 72) hx hb dX0_wrongIn_31 (by decide) (fun c19 => ?_) (fun c19 => ?_)
        · replace hs := ifp c19 hs
          refine lv_iload hx hb dX0_wrongIn_72 (lv_at hl 6 rfl) ?_
          exact x_reti X hK hI hs (Nat.le_of_ble_eq_true rfl) (Nat.le_of_ble_eq_true rfl) dX0_wrongIn_74
        · replace hs := ifn c19 hs
          refine lv_iload_n hx hb dX0_wrongIn_34 rfl (lv_at hl 4 rfl) ?_
          refine lv_iload hx hb dX0_wrongIn_35 (lv_at hl 0 rfl) ?_
          refine lv_ishr hx hb dX0_wrongIn_37 ?_
          refine lv_iconst (v := 1) hx hb dX0_wrongIn_38 (by decide) ?_
          refine lv_iand hx hb dX0_wrongIn_39 ?_
          refine lv_if_ne (tgt := 72) hx hb dX0_wrongIn_40 (by decide) (fun c18 => ?_) (fun c18 => ?_)
          · replace hs := ifn c18 hs
            refine lv_iload hx hb dX0_wrongIn_72 (lv_at hl 6 rfl) ?_
            exact x_reti X hK hI hs (Nat.le_of_ble_eq_true rfl) (Nat.le_of_ble_eq_true rfl) dX0_wrongIn_74
          · replace hs := ifp c18 hs
            refine lv_aload_n hx hb dX0_wrongIn_43 rfl (lv_at hl 1 rfl) ?_
            refine lv_iload hx hb dX0_wrongIn_44 (lv_at hl 0 rfl) ?_
            obtain ⟨h13, hs⟩ := hs
            obtain ⟨fh13, h13⟩ := xcl_spec h13
            refine x_goi hA hI (x_runV (As := [.int r7]) (rest := []) X hK hA hG hI h13 (q := (RX0, TX0, 10)) rfl rfl (xet_X0_timeOf l a0 r7 _ _ hs) iX0_timeOf q1193 q1195 qs23 q94 ⟨(Nat.le_of_ble_eq_true rfl), (Nat.le_of_ble_eq_true rfl)⟩ rfl hl.1 rfl (Nat.le_of_ble_eq_true rfl) dX0_wrongIn_46 ⟨(Nat.le_of_ble_eq_true rfl), (Nat.le_of_ble_eq_true rfl)⟩) (fun r13 C12 H locs hs9 hI => ?_)
            replace hs := hs9
            refine lv_iload hx hb dX0_wrongIn_49 (lv_at hl 5 rfl) ?_
            refine lv_icmp_lt (tgt := 72) hx hb dX0_wrongIn_51 (by decide) (fun c17 => ?_) (fun c17 => ?_)
            · replace hs := ifp c17 hs
              refine lv_iload hx hb dX0_wrongIn_72 (lv_at hl 6 rfl) ?_
              exact x_reti X hK hI hs (Nat.le_of_ble_eq_true rfl) (Nat.le_of_ble_eq_true rfl) dX0_wrongIn_74
            · replace hs := ifn c17 hs
              refine lv_aload_n hx hb dX0_wrongIn_54 rfl (lv_at hl 1 rfl) ?_
              refine lv_iload hx hb dX0_wrongIn_55 (lv_at hl 0 rfl) ?_
              obtain ⟨h16, hs⟩ := hs
              obtain ⟨fh16, h16⟩ := xcl_spec h16
              refine x_goi hA hI (x_runV (As := [.int r7]) (rest := []) X hK hA hG hI h16 (q := (RX0, TX0, 10)) rfl rfl (xet_X0_timeOf l a0 r7 _ _ hs) iX0_timeOf q1193 q1195 qs23 q94 ⟨(Nat.le_of_ble_eq_true rfl), (Nat.le_of_ble_eq_true rfl)⟩ rfl hl.1 rfl (Nat.le_of_ble_eq_true rfl) dX0_wrongIn_57 ⟨(Nat.le_of_ble_eq_true rfl), (Nat.le_of_ble_eq_true rfl)⟩) (fun r16 C15 H locs hs9 hI => ?_)
              replace hs := hs9
              refine lv_istore (lv' := [(4, .int r16), (6, .int r7), (0, .ref a0), (1, .ref a1), (2, .int a2), (3, .int x1), (5, .int x3)]) hx hb dX0_wrongIn_60 hl (by decide) rfl (fun ls hl => ?_)
              refine lv_iload_n hx hb dX0_wrongIn_62 rfl (lv_at hl 5 rfl) ?_
              refine lv_iconst (v := 1) hx hb dX0_wrongIn_63 (by decide) ?_
              refine lv_iload hx hb dX0_wrongIn_64 (lv_at hl 1 rfl) ?_
              refine lv_ishl hx hb dX0_wrongIn_66 ?_
              refine lv_ior hx hb dX0_wrongIn_67 ?_
              refine lv_istore_n (lv' := [(3, .int (x1 ||| (1 <<< (r7 &&& 31)))), (4, .int r16), (6, .int r7), (0, .ref a0), (1, .ref a1), (2, .int a2), (5, .int x3)]) hx hb dX0_wrongIn_68 rfl hl (by decide) rfl (fun ls hl => ?_)
              refine lv_goto (tgt := 75) hx hb dX0_wrongIn_69 (by decide) ?_
              refine lv_iinc (v := (x3 + 1)) (lv' := [(5, .int (x3 + 1)), (3, .int (x1 ||| (1 <<< (r7 &&& 31)))), (4, .int r16), (6, .int r7), (0, .ref a0), (1, .ref a1), (2, .int a2)]) hx hb dX0_wrongIn_75 hl (k := 6) rfl (congrArg (fun z => x3 + z) (show Int32.ofInt (1) = 1 by decide)) (by decide) rfl (fun ls hl => ?_)
              refine lv_goto (tgt := 8) hx hb dX0_wrongIn_78 (by decide) ?_
              exact ihx_X0_wrongIn_l8 _ _ _ _ _ _ _ hs hI (lv_sub hl [4, 5, 6, 1, 2, 0] rfl)
  exact Lx_X0_wrongIn_l8 NF _ _ _ _ _ _ _ hs hI (lv_sub hl [3, 4, 5, 2, 1, 0] rfl)
def x_X0_judge (a0 : Nat) (a1 : Int32) (a2 : Int32) (C : XH) (K : Int32 → XH → Prop) : Prop := (xcl C a0 = some 0 ∧ x_X0_shelf a0 a1 C (fun ad2 C1 => (xcl C1 ad2 = some 5 ∧ x_X5_row ad2 C1 (fun ad5 C4 => jn (fun (v7 : Int32) => x_X0_need v7 (-4) C4 (fun C8 => vd_X8_length ad5 C8 (fun r10 C9 => jn (fun (v11 : Int32) => x_X0_need v11 (-5) C9 (fun C12 => jn (fun (v13 : Int32) => x_X0_need v13 (-6) C12 (fun C14 => (xcl C14 a0 = some 0 ∧ x_X0_wrongIn a0 ad5 a2 C14 (fun r16 C15 => K r16 C15))) (fun ad18 C19 => (xcl C19 a0 = some 0 ∧ x_X0_refused a0 ad18 C19 (fun r21 C20 => K (r21 - 10) C20)))) (fun k52_13 => (if 8 < a2 then k52_13 0 else k52_13 1))) (fun ad24 C25 => (xcl C25 a0 = some 0 ∧ x_X0_refused a0 ad24 C25 (fun r27 C26 => K (r27 - 10) C26)))) (fun k36_11 => (if r10 < a2 then k36_11 0 else k36_11 1)))) (fun ad30 C31 => (xcl C31 a0 = some 0 ∧ x_X0_refused a0 ad30 C31 (fun r33 C32 => K (r33 - 10) C32)))) (fun k18_7 => (if a2 < 0 then k18_7 0 else k18_7 1))) (fun ad36 C37 => (xcl C37 a0 = some 0 ∧ x_X0_refused a0 ad36 C37 (fun r39 C38 => K (r39 - 10) C38))))) (fun ad41 C42 => (xcl C42 a0 = some 0 ∧ x_X0_refused a0 ad41 C42 (fun r44 C43 => K (r44 - 10) C43))))
theorem iX0_judge : xInfW yX0_judge cX0_judge 4 (some .int) [(0, 63, 64, 21)] 2 := ⟨q1326, by decide +kernel⟩
set_option maxHeartbeats 4000000 in
theorem xet_X0_judge (l : Launch) (hl0 : l.stackTraces = false) (a0 : Nat) (a1 : Int32) (a2 : Int32) (C : XH) (K : Int32 → XH → Prop) (hs : x_X0_judge a0 a1 a2 C K) : xMetX l yX0_judge (wsW_ yX0_judge cX0_judge 4 (some .int) [(0, 63, 64, 21)]) 13 10322 12 2062 C [.ref a0, .int a1, .int a2] (fun D dT A => xQi D dT K A) xE0 := by
  intro D dT adK adV sz
  refine xEnterW (own := RX0) (Qc := xQi D dT K) (XC := xXC D dT xE0) (by decide) rfl (by rfl) ?_
  intro p e s m args below meth c A ls X hnm hK hA hG hT hI hl
  have hx := X.1
  have hb := X.2.1
  have hts := X.2.2.2.2.1
  have hown := X.2.2.2.2.2.1
  have hl : lv_has ls 4 [(0, .ref a0), (1, .int a1), (2, .int a2)] := hl
  unfold x_X0_judge at hs
  refine lv_aload_n hx hb dX0_judge_0 rfl (lv_at hl 0 rfl) ?_
  refine lv_iload_n hx hb dX0_judge_1 rfl (lv_at hl 1 rfl) ?_
  obtain ⟨h2, hs⟩ := hs
  obtain ⟨fh2, h2⟩ := xcl_spec h2
  refine xT_gor hA hI (x_runVTW (As := [.int a1]) (rest := []) X hK hA hG hI h2 (q := (RX0, TX0, 10)) rfl rfl (xet_X0_shelf l hl0 a0 a1 _ _ _ hs) iX0_shelf q364 q366 qs0 q94 ⟨(Nat.le_of_ble_eq_true rfl), (Nat.le_of_ble_eq_true rfl)⟩ rfl hl.1 rfl (Nat.le_of_ble_eq_true rfl) dX0_judge_2 ⟨(Nat.le_of_ble_eq_true rfl), (Nat.le_of_ble_eq_true rfl)⟩) (fun En ce ad41 C42 H locs hs9 hI hce hvm hcl => ?_) (fun ad2 C1 H locs hs9 hI => ?_)
  · obtain ⟨rfl, hs0⟩ := hs9
    replace hs := hs0
    refine x_catch (k := 0) (a1 := 0) (a2 := 63) (a3 := 64) (a4 := 21) X hG hT rfl (x_cov rfl) rfl (by decide) q363 (by decide) hce hvm hcl ?_
    refine lv_astore_n (lv' := [(3, .ref ad41), (0, .ref a0), (1, .int a1), (2, .int a2)]) hx hb dX0_judge_64 rfl hl (by decide) rfl (fun ls hl => ?_)
    refine lv_aload_n hx hb dX0_judge_65 rfl (lv_at hl 1 rfl) ?_
    refine lv_aload_n hx hb dX0_judge_66 rfl (lv_at hl 0 rfl) ?_
    obtain ⟨h44, hs⟩ := hs
    obtain ⟨fh44, h44⟩ := xcl_spec h44
    refine x_goi hA hI (x_runV (As := [.ref ad41]) (rest := []) X hK hA hG hI h44 (q := (RX0, TX0, 10)) rfl rfl (xet_X0_refused l a0 ad41 _ _ hs) iX0_refused q538 q540 qs2 q94 ⟨(Nat.le_of_ble_eq_true rfl), (Nat.le_of_ble_eq_true rfl)⟩ rfl hl.1 rfl (Nat.le_of_ble_eq_true rfl) dX0_judge_67 ⟨(Nat.le_of_ble_eq_true rfl), (Nat.le_of_ble_eq_true rfl)⟩) (fun r44 C43 H locs hs9 hI => ?_)
    replace hs := hs9
    refine lv_bipush (v := 10) hx hb dX0_judge_70 (by decide) ?_
    refine lv_isub hx hb dX0_judge_72 ?_
    exact vx_ret (x_reti X hK hI hs (Nat.le_of_ble_eq_true rfl) (Nat.le_of_ble_eq_true rfl) dX0_judge_73)
  · replace hs := hs9
    obtain ⟨h5, hs⟩ := hs
    obtain ⟨fh5, h5⟩ := xcl_spec h5
    refine xT_gor hA hI (x_runVTW (As := []) (rest := []) X hK hA hG hI h5 (q := (RX5, TX5, 1)) rfl rfl (xet_X5_row l hl0 ad2 _ _ _ hs) iX5_row q546 q547 q548 q99 ⟨(Nat.le_of_ble_eq_true rfl), (Nat.le_of_ble_eq_true rfl)⟩ rfl hl.1 rfl (Nat.le_of_ble_eq_true rfl) dX0_judge_5 ⟨(Nat.le_of_ble_eq_true rfl), (Nat.le_of_ble_eq_true rfl)⟩) (fun En ce ad36 C37 H locs hs9 hI hce hvm hcl => ?_) (fun ad5 C4 H locs hs9 hI => ?_)
    · obtain ⟨rfl, hs0⟩ := hs9
      replace hs := hs0
      refine x_catch (k := 0) (a1 := 0) (a2 := 63) (a3 := 64) (a4 := 21) X hG hT rfl (x_cov rfl) rfl (by decide) q363 (by decide) hce hvm hcl ?_
      refine lv_astore_n (lv' := [(3, .ref ad36), (0, .ref a0), (1, .int a1), (2, .int a2)]) hx hb dX0_judge_64 rfl hl (by decide) rfl (fun ls hl => ?_)
      refine lv_aload_n hx hb dX0_judge_65 rfl (lv_at hl 1 rfl) ?_
      refine lv_aload_n hx hb dX0_judge_66 rfl (lv_at hl 0 rfl) ?_
      obtain ⟨h39, hs⟩ := hs
      obtain ⟨fh39, h39⟩ := xcl_spec h39
      refine x_goi hA hI (x_runV (As := [.ref ad36]) (rest := []) X hK hA hG hI h39 (q := (RX0, TX0, 10)) rfl rfl (xet_X0_refused l a0 ad36 _ _ hs) iX0_refused q538 q540 qs2 q94 ⟨(Nat.le_of_ble_eq_true rfl), (Nat.le_of_ble_eq_true rfl)⟩ rfl hl.1 rfl (Nat.le_of_ble_eq_true rfl) dX0_judge_67 ⟨(Nat.le_of_ble_eq_true rfl), (Nat.le_of_ble_eq_true rfl)⟩) (fun r39 C38 H locs hs9 hI => ?_)
      replace hs := hs9
      refine lv_bipush (v := 10) hx hb dX0_judge_70 (by decide) ?_
      refine lv_isub hx hb dX0_judge_72 ?_
      exact vx_ret (x_reti X hK hI hs (Nat.le_of_ble_eq_true rfl) (Nat.le_of_ble_eq_true rfl) dX0_judge_73)
    · replace hs := hs9
      refine lv_astore_n (lv' := [(3, .ref ad5), (0, .ref a0), (1, .int a1), (2, .int a2)]) hx hb dX0_judge_8 rfl hl (by decide) rfl (fun ls hl => ?_)
      refine lv_iload_n hx hb dX0_judge_9 rfl (lv_at hl 3 rfl) ?_
      obtain ⟨k18_7, hk18_7, hs⟩ := jn_ex hs
      have Ek18_7 : ∀ (v7 : Int32) (H : Heap) (locs : List Loc) (ls : Array Slot), k18_7 v7 → xI D dT A s.heap C4 H locs → lv_has ls 4 [(0, .ref a0), (2, .int a2), (3, .ref ad5)] → W p l e (xRm 13 10322 12 2062) s m args below meth c H locs 9 2041 (vx_MQ below (xQi D dT K A) (xXC D dT xE0 A) args s 12 2062 A) (F0 m 18 ls [.int v7]) := by
        intro v7 H locs ls hs hI hl
        rw [hk18_7] at hs
        refine lv_bipush (v := (-4)) hx hb dX0_judge_18 (by decide) ?_
        refine xT_gov hA hI (x_runST (As := [.int v7, .int (-4)]) (rest := []) X hK hA hG hI (xet_X0_need l hl0 v7 (-4) _ _ _ hs) iX0_need q469 q470 q94 ⟨(Nat.le_of_ble_eq_true rfl), (Nat.le_of_ble_eq_true rfl)⟩ rfl hl.1 rfl (Nat.le_of_ble_eq_true rfl) dX0_judge_20 ⟨(Nat.le_of_ble_eq_true rfl), (Nat.le_of_ble_eq_true rfl)⟩) (fun En ce ad30 C31 H locs hs9 hI hce hvm hcl => ?_) (fun C8 H locs hs9 hI => ?_)
        · obtain ⟨rfl, hs0⟩ := hs9
          replace hs := hs0
          refine x_catch (k := 0) (a1 := 0) (a2 := 63) (a3 := 64) (a4 := 21) X hG hT rfl (x_cov rfl) rfl (by decide) q363 (by decide) hce hvm hcl ?_
          refine lv_astore_n (lv' := [(3, .ref ad30), (0, .ref a0), (2, .int a2)]) hx hb dX0_judge_64 rfl hl (by decide) rfl (fun ls hl => ?_)
          refine lv_aload_n hx hb dX0_judge_65 rfl (lv_at hl 1 rfl) ?_
          refine lv_aload_n hx hb dX0_judge_66 rfl (lv_at hl 0 rfl) ?_
          obtain ⟨h33, hs⟩ := hs
          obtain ⟨fh33, h33⟩ := xcl_spec h33
          refine x_goi hA hI (x_runV (As := [.ref ad30]) (rest := []) X hK hA hG hI h33 (q := (RX0, TX0, 10)) rfl rfl (xet_X0_refused l a0 ad30 _ _ hs) iX0_refused q538 q540 qs2 q94 ⟨(Nat.le_of_ble_eq_true rfl), (Nat.le_of_ble_eq_true rfl)⟩ rfl hl.1 rfl (Nat.le_of_ble_eq_true rfl) dX0_judge_67 ⟨(Nat.le_of_ble_eq_true rfl), (Nat.le_of_ble_eq_true rfl)⟩) (fun r33 C32 H locs hs9 hI => ?_)
          replace hs := hs9
          refine lv_bipush (v := 10) hx hb dX0_judge_70 (by decide) ?_
          refine lv_isub hx hb dX0_judge_72 ?_
          exact vx_ret (x_reti X hK hI hs (Nat.le_of_ble_eq_true rfl) (Nat.le_of_ble_eq_true rfl) dX0_judge_73)
        · replace hs := hs9
          refine lv_iload_n hx hb dX0_judge_23 rfl (lv_at hl 1 rfl) ?_
          refine lv_aload_n hx hb dX0_judge_24 rfl (lv_at hl 2 rfl) ?_
          refine x_goi hA hI (vdc_X8_length (rest := [.int a2]) X hK hA hG hI ad5 _ hs q1327 ⟨(Nat.le_of_ble_eq_true rfl), (Nat.le_of_ble_eq_true rfl)⟩ hl.1 (Nat.le_of_ble_eq_true rfl) dX0_judge_25 ⟨(Nat.le_of_ble_eq_true rfl), (Nat.le_of_ble_eq_true rfl)⟩) (fun r10 C9 H locs hs9 hI => ?_)
          replace hs := hs9
          obtain ⟨k36_11, hk36_11, hs⟩ := jn_ex hs
          have Ek36_11 : ∀ (v11 : Int32) (H : Heap) (locs : List Loc) (ls : Array Slot), k36_11 v11 → xI D dT A s.heap C9 H locs → lv_has ls 4 [(0, .ref a0), (2, .int a2), (3, .ref ad5)] → W p l e (xRm 13 10322 12 2062) s m args below meth c H locs 10 2048 (vx_MQ below (xQi D dT K A) (xXC D dT xE0 A) args s 12 2062 A) (F0 m 36 ls [.int v11]) := by
            intro v11 H locs ls hs hI hl
            rw [hk36_11] at hs
            refine lv_bipush (v := (-5)) hx hb dX0_judge_36 (by decide) ?_
            refine xT_gov hA hI (x_runST (As := [.int v11, .int (-5)]) (rest := []) X hK hA hG hI (xet_X0_need l hl0 v11 (-5) _ _ _ hs) iX0_need q469 q470 q94 ⟨(Nat.le_of_ble_eq_true rfl), (Nat.le_of_ble_eq_true rfl)⟩ rfl hl.1 rfl (Nat.le_of_ble_eq_true rfl) dX0_judge_38 ⟨(Nat.le_of_ble_eq_true rfl), (Nat.le_of_ble_eq_true rfl)⟩) (fun En ce ad24 C25 H locs hs9 hI hce hvm hcl => ?_) (fun C12 H locs hs9 hI => ?_)
            · obtain ⟨rfl, hs0⟩ := hs9
              replace hs := hs0
              refine x_catch (k := 0) (a1 := 0) (a2 := 63) (a3 := 64) (a4 := 21) X hG hT rfl (x_cov rfl) rfl (by decide) q363 (by decide) hce hvm hcl ?_
              refine lv_astore_n (lv' := [(3, .ref ad24), (0, .ref a0), (2, .int a2)]) hx hb dX0_judge_64 rfl hl (by decide) rfl (fun ls hl => ?_)
              refine lv_aload_n hx hb dX0_judge_65 rfl (lv_at hl 1 rfl) ?_
              refine lv_aload_n hx hb dX0_judge_66 rfl (lv_at hl 0 rfl) ?_
              obtain ⟨h27, hs⟩ := hs
              obtain ⟨fh27, h27⟩ := xcl_spec h27
              refine x_goi hA hI (x_runV (As := [.ref ad24]) (rest := []) X hK hA hG hI h27 (q := (RX0, TX0, 10)) rfl rfl (xet_X0_refused l a0 ad24 _ _ hs) iX0_refused q538 q540 qs2 q94 ⟨(Nat.le_of_ble_eq_true rfl), (Nat.le_of_ble_eq_true rfl)⟩ rfl hl.1 rfl (Nat.le_of_ble_eq_true rfl) dX0_judge_67 ⟨(Nat.le_of_ble_eq_true rfl), (Nat.le_of_ble_eq_true rfl)⟩) (fun r27 C26 H locs hs9 hI => ?_)
              replace hs := hs9
              refine lv_bipush (v := 10) hx hb dX0_judge_70 (by decide) ?_
              refine lv_isub hx hb dX0_judge_72 ?_
              exact vx_ret (x_reti X hK hI hs (Nat.le_of_ble_eq_true rfl) (Nat.le_of_ble_eq_true rfl) dX0_judge_73)
            · replace hs := hs9
              refine lv_iload_n hx hb dX0_judge_41 rfl (lv_at hl 1 rfl) ?_
              refine lv_bipush (v := 8) hx hb dX0_judge_42 (by decide) ?_
              obtain ⟨k52_13, hk52_13, hs⟩ := jn_ex hs
              have Ek52_13 : ∀ (v13 : Int32) (H : Heap) (locs : List Loc) (ls : Array Slot), k52_13 v13 → xI D dT A s.heap C12 H locs → lv_has ls 4 [(0, .ref a0), (2, .int a2), (3, .ref ad5)] → W p l e (xRm 13 10322 12 2062) s m args below meth c H locs 11 2055 (vx_MQ below (xQi D dT K A) (xXC D dT xE0 A) args s 12 2062 A) (F0 m 52 ls [.int v13]) := by
                intro v13 H locs ls hs hI hl
                rw [hk52_13] at hs
                refine lv_bipush (v := (-6)) hx hb dX0_judge_52 (by decide) ?_
                refine xT_gov hA hI (x_runST (As := [.int v13, .int (-6)]) (rest := []) X hK hA hG hI (xet_X0_need l hl0 v13 (-6) _ _ _ hs) iX0_need q469 q470 q94 ⟨(Nat.le_of_ble_eq_true rfl), (Nat.le_of_ble_eq_true rfl)⟩ rfl hl.1 rfl (Nat.le_of_ble_eq_true rfl) dX0_judge_54 ⟨(Nat.le_of_ble_eq_true rfl), (Nat.le_of_ble_eq_true rfl)⟩) (fun En ce ad18 C19 H locs hs9 hI hce hvm hcl => ?_) (fun C14 H locs hs9 hI => ?_)
                · obtain ⟨rfl, hs0⟩ := hs9
                  replace hs := hs0
                  refine x_catch (k := 0) (a1 := 0) (a2 := 63) (a3 := 64) (a4 := 21) X hG hT rfl (x_cov rfl) rfl (by decide) q363 (by decide) hce hvm hcl ?_
                  refine lv_astore_n (lv' := [(3, .ref ad18), (0, .ref a0), (2, .int a2)]) hx hb dX0_judge_64 rfl hl (by decide) rfl (fun ls hl => ?_)
                  refine lv_aload_n hx hb dX0_judge_65 rfl (lv_at hl 1 rfl) ?_
                  refine lv_aload_n hx hb dX0_judge_66 rfl (lv_at hl 0 rfl) ?_
                  obtain ⟨h21, hs⟩ := hs
                  obtain ⟨fh21, h21⟩ := xcl_spec h21
                  refine x_goi hA hI (x_runV (As := [.ref ad18]) (rest := []) X hK hA hG hI h21 (q := (RX0, TX0, 10)) rfl rfl (xet_X0_refused l a0 ad18 _ _ hs) iX0_refused q538 q540 qs2 q94 ⟨(Nat.le_of_ble_eq_true rfl), (Nat.le_of_ble_eq_true rfl)⟩ rfl hl.1 rfl (Nat.le_of_ble_eq_true rfl) dX0_judge_67 ⟨(Nat.le_of_ble_eq_true rfl), (Nat.le_of_ble_eq_true rfl)⟩) (fun r21 C20 H locs hs9 hI => ?_)
                  replace hs := hs9
                  refine lv_bipush (v := 10) hx hb dX0_judge_70 (by decide) ?_
                  refine lv_isub hx hb dX0_judge_72 ?_
                  exact vx_ret (x_reti X hK hI hs (Nat.le_of_ble_eq_true rfl) (Nat.le_of_ble_eq_true rfl) dX0_judge_73)
                · replace hs := hs9
                  refine lv_aload_n hx hb dX0_judge_57 rfl (lv_at hl 0 rfl) ?_
                  refine lv_aload_n hx hb dX0_judge_58 rfl (lv_at hl 2 rfl) ?_
                  refine lv_iload_n hx hb dX0_judge_59 rfl (lv_at hl 1 rfl) ?_
                  obtain ⟨h16, hs⟩ := hs
                  obtain ⟨fh16, h16⟩ := xcl_spec h16
                  refine x_goi hA hI (x_runV (As := [.ref ad5, .int a2]) (rest := []) X hK hA hG hI h16 (q := (RX0, TX0, 10)) rfl rfl (xet_X0_wrongIn l a0 ad5 a2 _ _ hs) iX0_wrongIn q1328 q1330 qs36 q94 ⟨(Nat.le_of_ble_eq_true rfl), (Nat.le_of_ble_eq_true rfl)⟩ rfl hl.1 rfl (Nat.le_of_ble_eq_true rfl) dX0_judge_60 ⟨(Nat.le_of_ble_eq_true rfl), (Nat.le_of_ble_eq_true rfl)⟩) (fun r16 C15 H locs hs9 hI => ?_)
                  replace hs := hs9
                  exact vx_ret (x_reti X hK hI hs (Nat.le_of_ble_eq_true rfl) (Nat.le_of_ble_eq_true rfl) dX0_judge_63)
              refine lv_icmp_gt (tgt := 51) hx hb dX0_judge_44 (by decide) (fun c22 => ?_) (fun c22 => ?_)
              · replace hs := ifp c22 hs
                refine lv_iconst (v := 0) hx hb dX0_judge_51 (by decide) ?_
                exact Ek52_13 _ _ _ _ hs hI hl
              · replace hs := ifn c22 hs
                refine lv_iconst (v := 1) hx hb dX0_judge_47 (by decide) ?_
                refine lv_goto (tgt := 52) hx hb dX0_judge_48 (by decide) ?_
                exact Ek52_13 _ _ _ _ hs hI hl
          refine lv_icmp_gt (tgt := 35) hx hb dX0_judge_28 (by decide) (fun c28 => ?_) (fun c28 => ?_)
          · replace hs := ifp c28 hs
            refine lv_iconst (v := 0) hx hb dX0_judge_35 (by decide) ?_
            exact Ek36_11 _ _ _ _ hs hI hl
          · replace hs := ifn c28 hs
            refine lv_iconst (v := 1) hx hb dX0_judge_31 (by decide) ?_
            refine lv_goto (tgt := 36) hx hb dX0_judge_32 (by decide) ?_
            exact Ek36_11 _ _ _ _ hs hI hl
      refine lv_if_lt (tgt := 17) hx hb dX0_judge_10 (by decide) (fun c34 => ?_) (fun c34 => ?_)
      · replace hs := ifp c34 hs
        refine lv_iconst (v := 0) hx hb dX0_judge_17 (by decide) ?_
        exact Ek18_7 _ _ _ _ hs hI (lv_sub hl [1, 3, 0] rfl)
      · replace hs := ifn c34 hs
        refine lv_iconst (v := 1) hx hb dX0_judge_13 (by decide) ?_
        refine lv_goto (tgt := 18) hx hb dX0_judge_14 (by decide) ?_
        exact Ek18_7 _ _ _ _ hs hI (lv_sub hl [1, 3, 0] rfl)
def x_X0_meant_l48 (a0 : Nat) (ad5 : Nat) (x17 : Int32) (k86_20 : XH → Prop) (k77_22 : XH → Prop) : Nat → Int32 → XH → Prop
  | 0, _, _ => False
  | n48_27 + 1, x26, C27 => obd (xgr C27 (xis 0) a0 7) (fun ad29 => obd (xgi C27 (xis 4) ad29 0) (fun v30 => (if v30 ≤ x26 then k86_20 C27 else vd_X8_asInt ad5 x26 C27 (fun r32 C31 => (xcl C31 a0 = some 0 ∧ x_X0_timeAs a0 x26 x17 C31 (fun r34 C33 => (if r32 = r34 then x_X0_meant_l48 a0 ad5 x17 k86_20 k77_22 n48_27 (x26 + 1) C33 else k77_22 C33)))))))
theorem x_X0_meant_l48_s (a0 : Nat) (ad5 : Nat) (x17 : Int32) (k86_20 : XH → Prop) (k77_22 : XH → Prop) (n48_27 : Nat) (x26 : Int32) (C27 : XH) : x_X0_meant_l48 a0 ad5 x17 k86_20 k77_22 (n48_27 + 1) x26 C27 = (obd (xgr C27 (xis 0) a0 7) (fun ad29 => obd (xgi C27 (xis 4) ad29 0) (fun v30 => (if v30 ≤ x26 then k86_20 C27 else vd_X8_asInt ad5 x26 C27 (fun r32 C31 => (xcl C31 a0 = some 0 ∧ x_X0_timeAs a0 x26 x17 C31 (fun r34 C33 => (if r32 = r34 then x_X0_meant_l48 a0 ad5 x17 k86_20 k77_22 n48_27 (x26 + 1) C33 else k77_22 C33)))))))) := rfl
def x_X0_meant_l38 (a0 : Nat) (ad5 : Nat) (k99_14 : Int32 → XH → Prop) : Nat → Int32 → Int32 → XH → Prop
  | 0, _, _, _ => False
  | n38_18 + 1, x16, x17, C18 => (if 7 ≤ x17 then k99_14 x16 C18 else jn (fun (C20 : XH) => x_X0_meant_l38 a0 ad5 k99_14 n38_18 (x16 ||| (1 <<< (x17 &&& 31))) (x17 + 1) C20) (fun k86_20 => jn (fun (C22 : XH) => x_X0_meant_l38 a0 ad5 k99_14 n38_18 x16 (x17 + 1) C22) (fun k77_22 => jn (fun (C24 : XH) => x_X0_meant_l38 a0 ad5 k99_14 n38_18 x16 (x17 + 1) C24) (fun k93_24 => x_X0_meant_l48 a0 ad5 x17 k86_20 k77_22 NF9 0 C18))))
theorem x_X0_meant_l38_s (a0 : Nat) (ad5 : Nat) (k99_14 : Int32 → XH → Prop) (n38_18 : Nat) (x16 : Int32) (x17 : Int32) (C18 : XH) : x_X0_meant_l38 a0 ad5 k99_14 (n38_18 + 1) x16 x17 C18 = ((if 7 ≤ x17 then k99_14 x16 C18 else jn (fun (C20 : XH) => x_X0_meant_l38 a0 ad5 k99_14 n38_18 (x16 ||| (1 <<< (x17 &&& 31))) (x17 + 1) C20) (fun k86_20 => jn (fun (C22 : XH) => x_X0_meant_l38 a0 ad5 k99_14 n38_18 x16 (x17 + 1) C22) (fun k77_22 => jn (fun (C24 : XH) => x_X0_meant_l38 a0 ad5 k99_14 n38_18 x16 (x17 + 1) C24) (fun k93_24 => x_X0_meant_l48 a0 ad5 x17 k86_20 k77_22 NF9 0 C18))))) := rfl
def x_X0_meant (a0 : Nat) (a1 : Int32) (C : XH) (K : Int32 → XH → Prop) : Prop := (xcl C a0 = some 0 ∧ x_X0_shelf a0 a1 C (fun ad2 C1 => (xcl C1 ad2 = some 5 ∧ x_X5_row ad2 C1 (fun ad5 C4 => vd_X8_length ad5 C4 (fun r8 C7 => obd (xgr C7 (xis 0) a0 7) (fun ad9 => obd (xgi C7 (xis 4) ad9 0) (fun v10 => jn (fun (v11 : Int32) => x_X0_need v11 (-5) C7 (fun C12 => jn (fun (x13 : Int32) (C14 : XH) => K x13 C14) (fun k99_14 => x_X0_meant_l38 a0 ad5 k99_14 NF9 0 0 C12)) (fun ad39 C40 => (xcl C40 a0 = some 0 ∧ x_X0_refused a0 ad39 C40 (fun r42 C41 => K r42 C41)))) (fun k28_11 => (if r8 < v10 then k28_11 0 else k28_11 1)))))) (fun ad45 C46 => (xcl C46 a0 = some 0 ∧ x_X0_refused a0 ad45 C46 (fun r48 C47 => K r48 C47))))) (fun ad50 C51 => (xcl C51 a0 = some 0 ∧ x_X0_refused a0 ad50 C51 (fun r53 C52 => K r53 C52))))
theorem iX0_meant : xInfW yX0_meant cX0_meant 6 (some .int) [(0, 100, 101, 21)] 1 := ⟨q1336, by decide +kernel⟩
set_option maxHeartbeats 4000000 in
theorem xet_X0_meant (l : Launch) (hl0 : l.stackTraces = false) (a0 : Nat) (a1 : Int32) (C : XH) (K : Int32 → XH → Prop) (hs : x_X0_meant a0 a1 C K) : xMetX l yX0_meant (wsW_ yX0_meant cX0_meant 6 (some .int) [(0, 100, 101, 21)]) 13 10322 110 2248 C [.ref a0, .int a1] (fun D dT A => xQi D dT K A) xE0 := by
  intro D dT adK adV sz
  refine xEnterW (own := RX0) (Qc := xQi D dT K) (XC := xXC D dT xE0) (by decide) rfl (by rfl) ?_
  intro p e s m args below meth c A ls X hnm hK hA hG hT hI hl
  have hx := X.1
  have hb := X.2.1
  have hts := X.2.2.2.2.1
  have hown := X.2.2.2.2.2.1
  have hl : lv_has ls 6 [(0, .ref a0), (1, .int a1)] := hl
  unfold x_X0_meant at hs
  refine lv_aload_n hx hb dX0_meant_0 rfl (lv_at hl 0 rfl) ?_
  refine lv_iload_n hx hb dX0_meant_1 rfl (lv_at hl 1 rfl) ?_
  obtain ⟨h2, hs⟩ := hs
  obtain ⟨fh2, h2⟩ := xcl_spec h2
  refine xT_gor hA hI (x_runVTW (As := [.int a1]) (rest := []) X hK hA hG hI h2 (q := (RX0, TX0, 10)) rfl rfl (xet_X0_shelf l hl0 a0 a1 _ _ _ hs) iX0_shelf q364 q366 qs0 q94 ⟨(Nat.le_of_ble_eq_true rfl), (Nat.le_of_ble_eq_true rfl)⟩ rfl hl.1 rfl (Nat.le_of_ble_eq_true rfl) dX0_meant_2 ⟨(Nat.le_of_ble_eq_true rfl), (Nat.le_of_ble_eq_true rfl)⟩) (fun En ce ad50 C51 H locs hs9 hI hce hvm hcl => ?_) (fun ad2 C1 H locs hs9 hI => ?_)
  · obtain ⟨rfl, hs0⟩ := hs9
    replace hs := hs0
    refine x_catch (k := 0) (a1 := 0) (a2 := 100) (a3 := 101) (a4 := 21) X hG hT rfl (x_cov rfl) rfl (by decide) q363 (by decide) hce hvm hcl ?_
    refine lv_astore_n (lv' := [(2, .ref ad50), (0, .ref a0), (1, .int a1)]) hx hb dX0_meant_101 rfl hl (by decide) rfl (fun ls hl => ?_)
    refine lv_aload_n hx hb dX0_meant_102 rfl (lv_at hl 1 rfl) ?_
    refine lv_aload_n hx hb dX0_meant_103 rfl (lv_at hl 0 rfl) ?_
    obtain ⟨h53, hs⟩ := hs
    obtain ⟨fh53, h53⟩ := xcl_spec h53
    refine x_goi hA hI (x_runV (As := [.ref ad50]) (rest := []) X hK hA hG hI h53 (q := (RX0, TX0, 10)) rfl rfl (xet_X0_refused l a0 ad50 _ _ hs) iX0_refused q538 q540 qs2 q94 ⟨(Nat.le_of_ble_eq_true rfl), (Nat.le_of_ble_eq_true rfl)⟩ rfl hl.1 rfl (Nat.le_of_ble_eq_true rfl) dX0_meant_104 ⟨(Nat.le_of_ble_eq_true rfl), (Nat.le_of_ble_eq_true rfl)⟩) (fun r53 C52 H locs hs9 hI => ?_)
    replace hs := hs9
    exact vx_ret (x_reti X hK hI hs (Nat.le_of_ble_eq_true rfl) (Nat.le_of_ble_eq_true rfl) dX0_meant_107)
  · replace hs := hs9
    obtain ⟨h5, hs⟩ := hs
    obtain ⟨fh5, h5⟩ := xcl_spec h5
    refine xT_gor hA hI (x_runVTW (As := []) (rest := []) X hK hA hG hI h5 (q := (RX5, TX5, 1)) rfl rfl (xet_X5_row l hl0 ad2 _ _ _ hs) iX5_row q546 q547 q548 q99 ⟨(Nat.le_of_ble_eq_true rfl), (Nat.le_of_ble_eq_true rfl)⟩ rfl hl.1 rfl (Nat.le_of_ble_eq_true rfl) dX0_meant_5 ⟨(Nat.le_of_ble_eq_true rfl), (Nat.le_of_ble_eq_true rfl)⟩) (fun En ce ad45 C46 H locs hs9 hI hce hvm hcl => ?_) (fun ad5 C4 H locs hs9 hI => ?_)
    · obtain ⟨rfl, hs0⟩ := hs9
      replace hs := hs0
      refine x_catch (k := 0) (a1 := 0) (a2 := 100) (a3 := 101) (a4 := 21) X hG hT rfl (x_cov rfl) rfl (by decide) q363 (by decide) hce hvm hcl ?_
      refine lv_astore_n (lv' := [(2, .ref ad45), (0, .ref a0), (1, .int a1)]) hx hb dX0_meant_101 rfl hl (by decide) rfl (fun ls hl => ?_)
      refine lv_aload_n hx hb dX0_meant_102 rfl (lv_at hl 1 rfl) ?_
      refine lv_aload_n hx hb dX0_meant_103 rfl (lv_at hl 0 rfl) ?_
      obtain ⟨h48, hs⟩ := hs
      obtain ⟨fh48, h48⟩ := xcl_spec h48
      refine x_goi hA hI (x_runV (As := [.ref ad45]) (rest := []) X hK hA hG hI h48 (q := (RX0, TX0, 10)) rfl rfl (xet_X0_refused l a0 ad45 _ _ hs) iX0_refused q538 q540 qs2 q94 ⟨(Nat.le_of_ble_eq_true rfl), (Nat.le_of_ble_eq_true rfl)⟩ rfl hl.1 rfl (Nat.le_of_ble_eq_true rfl) dX0_meant_104 ⟨(Nat.le_of_ble_eq_true rfl), (Nat.le_of_ble_eq_true rfl)⟩) (fun r48 C47 H locs hs9 hI => ?_)
      replace hs := hs9
      exact vx_ret (x_reti X hK hI hs (Nat.le_of_ble_eq_true rfl) (Nat.le_of_ble_eq_true rfl) dX0_meant_107)
    · replace hs := hs9
      refine lv_astore_n (lv' := [(2, .ref ad5), (0, .ref a0), (1, .int a1)]) hx hb dX0_meant_8 rfl hl (by decide) rfl (fun ls hl => ?_)
      refine lv_aload_n hx hb dX0_meant_9 rfl (lv_at hl 0 rfl) ?_
      refine x_goi hA hI (vdc_X8_length (rest := []) X hK hA hG hI ad5 _ hs q1327 ⟨(Nat.le_of_ble_eq_true rfl), (Nat.le_of_ble_eq_true rfl)⟩ hl.1 (Nat.le_of_ble_eq_true rfl) dX0_meant_10 ⟨(Nat.le_of_ble_eq_true rfl), (Nat.le_of_ble_eq_true rfl)⟩) (fun r8 C7 H locs hs9 hI => ?_)
      replace hs := hs9
      refine lv_aload_n hx hb dX0_meant_13 rfl (lv_at hl 1 rfl) ?_
      obtain ⟨ad9, ead9, hs⟩ := hs
      refine x_get (v := .ref ad9) X hK hI 0 7 rfl in_X0 rfl q335 rfl (xgr_spec ead9) dX0_meant_14 ?_
      obtain ⟨v10, ev10, hs⟩ := hs
      refine x_get (v := .int v10) X hK hI 4 0 rfl in_X4 rfl q252 rfl (xgi_spec ev10) dX0_meant_17 ?_
      obtain ⟨k28_11, hk28_11, hs⟩ := jn_ex hs
      have Ek28_11 : ∀ (v11 : Int32) (H : Heap) (locs : List Loc) (ls : Array Slot), k28_11 v11 → xI D dT A s.heap C7 H locs → lv_has ls 6 [(0, .ref a0), (2, .ref ad5)] → W p l e (xRm 13 10322 110 2248) s m args below meth c H locs 9 2041 (vx_MQ below (xQi D dT K A) (xXC D dT xE0 A) args s 110 2248 A) (F0 m 28 ls [.int v11]) := by
        intro v11 H locs ls hs hI hl
        rw [hk28_11] at hs
        refine lv_bipush (v := (-5)) hx hb dX0_meant_28 (by decide) ?_
        refine xT_gov hA hI (x_runST (As := [.int v11, .int (-5)]) (rest := []) X hK hA hG hI (xet_X0_need l hl0 v11 (-5) _ _ _ hs) iX0_need q469 q470 q94 ⟨(Nat.le_of_ble_eq_true rfl), (Nat.le_of_ble_eq_true rfl)⟩ rfl hl.1 rfl (Nat.le_of_ble_eq_true rfl) dX0_meant_30 ⟨(Nat.le_of_ble_eq_true rfl), (Nat.le_of_ble_eq_true rfl)⟩) (fun En ce ad39 C40 H locs hs9 hI hce hvm hcl => ?_) (fun C12 H locs hs9 hI => ?_)
        · obtain ⟨rfl, hs0⟩ := hs9
          replace hs := hs0
          refine x_catch (k := 0) (a1 := 0) (a2 := 100) (a3 := 101) (a4 := 21) X hG hT rfl (x_cov rfl) rfl (by decide) q363 (by decide) hce hvm hcl ?_
          refine lv_astore_n (lv' := [(2, .ref ad39), (0, .ref a0)]) hx hb dX0_meant_101 rfl hl (by decide) rfl (fun ls hl => ?_)
          refine lv_aload_n hx hb dX0_meant_102 rfl (lv_at hl 1 rfl) ?_
          refine lv_aload_n hx hb dX0_meant_103 rfl (lv_at hl 0 rfl) ?_
          obtain ⟨h42, hs⟩ := hs
          obtain ⟨fh42, h42⟩ := xcl_spec h42
          refine x_goi hA hI (x_runV (As := [.ref ad39]) (rest := []) X hK hA hG hI h42 (q := (RX0, TX0, 10)) rfl rfl (xet_X0_refused l a0 ad39 _ _ hs) iX0_refused q538 q540 qs2 q94 ⟨(Nat.le_of_ble_eq_true rfl), (Nat.le_of_ble_eq_true rfl)⟩ rfl hl.1 rfl (Nat.le_of_ble_eq_true rfl) dX0_meant_104 ⟨(Nat.le_of_ble_eq_true rfl), (Nat.le_of_ble_eq_true rfl)⟩) (fun r42 C41 H locs hs9 hI => ?_)
          replace hs := hs9
          exact vx_ret (x_reti X hK hI hs (Nat.le_of_ble_eq_true rfl) (Nat.le_of_ble_eq_true rfl) dX0_meant_107)
        · replace hs := hs9
          refine lv_iconst (v := 0) hx hb dX0_meant_33 (by decide) ?_
          refine lv_istore_n (lv' := [(3, .int 0), (0, .ref a0), (2, .ref ad5)]) hx hb dX0_meant_34 rfl hl (by decide) rfl (fun ls hl => ?_)
          refine lv_iconst (v := 0) hx hb dX0_meant_35 (by decide) ?_
          refine lv_istore (lv' := [(4, .int 0), (3, .int 0), (0, .ref a0), (2, .ref ad5)]) hx hb dX0_meant_36 hl (by decide) rfl (fun ls hl => ?_)
          obtain ⟨k99_14, hk99_14, hs⟩ := jn_ex hs
          have Ek99_14 : ∀ (x13 : Int32) (C14 : XH) (H : Heap) (locs : List Loc) (ls : Array Slot), k99_14 x13 C14 → xI D dT A s.heap C14 H locs → lv_has ls 6 [(0, .ref a0), (3, .int x13)] → W p l e (xRm 13 10322 110 2248) s m args below meth c H locs 110 2248 (vx_MQ below (xQi D dT K A) (xXC D dT xE0 A) args s 110 2248 A) (F0 m 99 ls []) := by
            intro x13 C14 H locs ls hs hI hl
            rw [hk99_14] at hs
            refine lv_iload_n hx hb dX0_meant_99 rfl (lv_at hl 1 rfl) ?_
            exact vx_ret (x_reti X hK hI hs (Nat.le_of_ble_eq_true rfl) (Nat.le_of_ble_eq_true rfl) dX0_meant_100)
          have Lx_X0_meant_l38 : ∀ (n38_18 : Nat) (ce38 sl38 : Nat), ce38 + (n38_18 + 1) * 10 ≤ 110 → sl38 + (n38_18 + 1) * 20 ≤ 2248 → ∀ (x16 : Int32) (x17 : Int32) (C18 : XH) (H : Heap) (locs : List Loc) (ls : Array Slot), x_X0_meant_l38 a0 ad5 k99_14 n38_18 x16 x17 C18 → xI D dT A s.heap C18 H locs → lv_has ls 6 [(0, .ref a0), (2, .ref ad5), (3, .int x16), (4, .int x17)] → W p l e (xRm 13 10322 110 2248) s m args below meth c H locs ce38 sl38 (vx_MQ below (xQi D dT K A) (xXC D dT xE0 A) args s 110 2248 A) (F0 m 38 ls []) := by
            intro n38_18
            induction n38_18 with
            | zero =>
              intro ce38 sl38 hce38 hsl38 x16 x17 C18 H locs ls hs
              exact False.elim hs
            | succ n38_18 ihx_X0_meant_l38 =>
              intro ce38 sl38 hce38 hsl38 x16 x17 C18 H locs ls hs hI hl
              rw [x_X0_meant_l38_s] at hs
              refine lv_iload hx hb dX0_meant_38 (lv_at hl 3 rfl) ?_
              refine lv_bipush (v := 7) hx hb dX0_meant_40 (by decide) ?_
              refine lv_icmp_ge (tgt := 99) hx hb dX0_meant_42 (by decide) (fun c37 => ?_) (fun c37 => ?_)
              · replace hs := ifp c37 hs
                exact W.widen (show ce38 ≤ 110 by omega) (show sl38 ≤ 2248 by omega) (Ek99_14 _ _ _ _ _ hs hI (lv_sub hl [0, 2] rfl))
              · replace hs := ifn c37 hs
                refine lv_iconst (v := 0) hx hb dX0_meant_45 (by decide) ?_
                refine lv_istore (lv' := [(5, .int 0), (0, .ref a0), (2, .ref ad5), (3, .int x16), (4, .int x17)]) hx hb dX0_meant_46 hl (by decide) rfl (fun ls hl => ?_)
                obtain ⟨k86_20, hk86_20, hs⟩ := jn_ex hs
                have Ek86_20 : ∀ (C20 : XH) (H : Heap) (locs : List Loc) (ls : Array Slot), k86_20 C20 → xI D dT A s.heap C20 H locs → lv_has ls 6 [(0, .ref a0), (2, .ref ad5), (3, .int x16), (4, .int x17)] → W p l e (xRm 13 10322 110 2248) s m args below meth c H locs (ce38 + 10) (sl38 + 20) (vx_MQ below (xQi D dT K A) (xXC D dT xE0 A) args s 110 2248 A) (F0 m 86 ls []) := by
                  intro C20 H locs ls hs hI hl
                  rw [hk86_20] at hs
                  refine lv_iload_n hx hb dX0_meant_86 rfl (lv_at hl 2 rfl) ?_
                  refine lv_iconst (v := 1) hx hb dX0_meant_87 (by decide) ?_
                  refine lv_iload hx hb dX0_meant_88 (lv_at hl 3 rfl) ?_
                  refine lv_ishl hx hb dX0_meant_90 ?_
                  refine lv_ior hx hb dX0_meant_91 ?_
                  refine lv_istore_n (lv' := [(3, .int (x16 ||| (1 <<< (x17 &&& 31)))), (0, .ref a0), (2, .ref ad5), (4, .int x17)]) hx hb dX0_meant_92 rfl hl (by decide) rfl (fun ls hl => ?_)
                  refine lv_iinc (v := (x17 + 1)) (lv' := [(4, .int (x17 + 1)), (3, .int (x16 ||| (1 <<< (x17 &&& 31)))), (0, .ref a0), (2, .ref ad5)]) hx hb dX0_meant_93 hl (k := 3) rfl (congrArg (fun z => x17 + z) (show Int32.ofInt (1) = 1 by decide)) (by decide) rfl (fun ls hl => ?_)
                  refine lv_goto (tgt := 38) hx hb dX0_meant_96 (by decide) ?_
                  exact ihx_X0_meant_l38 (ce38 + 10) (sl38 + 20) (by omega) (by omega) _ _ _ _ _ _ hs hI (lv_sub hl [2, 3, 1, 0] rfl)
                obtain ⟨k77_22, hk77_22, hs⟩ := jn_ex hs
                have Ek77_22 : ∀ (C22 : XH) (H : Heap) (locs : List Loc) (ls : Array Slot), k77_22 C22 → xI D dT A s.heap C22 H locs → lv_has ls 6 [(0, .ref a0), (2, .ref ad5), (3, .int x16), (4, .int x17)] → W p l e (xRm 13 10322 110 2248) s m args below meth c H locs (ce38 + 10) (sl38 + 20) (vx_MQ below (xQi D dT K A) (xXC D dT xE0 A) args s 110 2248 A) (F0 m 77 ls []) := by
                  intro C22 H locs ls hs hI hl
                  rw [hk77_22] at hs
                  refine lv_goto (tgt := 93) hx hb dX0_meant_77 (by decide) ?_
                  refine lv_iinc (v := (x17 + 1)) (lv' := [(4, .int (x17 + 1)), (0, .ref a0), (2, .ref ad5), (3, .int x16)]) hx hb dX0_meant_93 hl (k := 3) rfl (congrArg (fun z => x17 + z) (show Int32.ofInt (1) = 1 by decide)) (by decide) rfl (fun ls hl => ?_)
                  refine lv_goto (tgt := 38) hx hb dX0_meant_96 (by decide) ?_
                  exact ihx_X0_meant_l38 (ce38 + 10) (sl38 + 20) (by omega) (by omega) _ _ _ _ _ _ hs hI (lv_sub hl [1, 2, 3, 0] rfl)
                obtain ⟨k93_24, hk93_24, hs⟩ := jn_ex hs
                have Ek93_24 : ∀ (C24 : XH) (H : Heap) (locs : List Loc) (ls : Array Slot), k93_24 C24 → xI D dT A s.heap C24 H locs → lv_has ls 6 [(0, .ref a0), (2, .ref ad5), (3, .int x16), (4, .int x17)] → W p l e (xRm 13 10322 110 2248) s m args below meth c H locs (ce38 + 10) (sl38 + 20) (vx_MQ below (xQi D dT K A) (xXC D dT xE0 A) args s 110 2248 A) (F0 m 93 ls []) := by
                  intro C24 H locs ls hs hI hl
                  rw [hk93_24] at hs
                  refine lv_iinc (v := (x17 + 1)) (lv' := [(4, .int (x17 + 1)), (0, .ref a0), (2, .ref ad5), (3, .int x16)]) hx hb dX0_meant_93 hl (k := 3) rfl (congrArg (fun z => x17 + z) (show Int32.ofInt (1) = 1 by decide)) (by decide) rfl (fun ls hl => ?_)
                  refine lv_goto (tgt := 38) hx hb dX0_meant_96 (by decide) ?_
                  exact ihx_X0_meant_l38 (ce38 + 10) (sl38 + 20) (by omega) (by omega) _ _ _ _ _ _ hs hI (lv_sub hl [1, 2, 3, 0] rfl)
                have Lx_X0_meant_l48 : ∀ (n48_27 : Nat) (ce48 sl48 : Nat), ce48 + (n48_27 + 1) * 1 ≤ ce38 + 10 → sl48 + (n48_27 + 1) * 2 ≤ sl38 + 20 → ∀ (x26 : Int32) (C27 : XH) (H : Heap) (locs : List Loc) (ls : Array Slot), x_X0_meant_l48 a0 ad5 x17 k86_20 k77_22 n48_27 x26 C27 → xI D dT A s.heap C27 H locs → lv_has ls 6 [(0, .ref a0), (2, .ref ad5), (3, .int x16), (4, .int x17), (5, .int x26)] → W p l e (xRm 13 10322 110 2248) s m args below meth c H locs ce48 sl48 (vx_MQ below (xQi D dT K A) (xXC D dT xE0 A) args s 110 2248 A) (F0 m 48 ls []) := by
                  intro n48_27
                  induction n48_27 with
                  | zero =>
                    intro ce48 sl48 hce48 hsl48 x26 C27 H locs ls hs
                    exact False.elim hs
                  | succ n48_27 ihx_X0_meant_l48 =>
                    intro ce48 sl48 hce48 hsl48 x26 C27 H locs ls hs hI hl
                    rw [x_X0_meant_l48_s] at hs
                    refine lv_iload hx hb dX0_meant_48 (lv_at hl 4 rfl) ?_
                    refine lv_aload_n hx hb dX0_meant_50 rfl (lv_at hl 0 rfl) ?_
                    obtain ⟨ad29, ead29, hs⟩ := hs
                    refine x_get (v := .ref ad29) X hK hI 0 7 rfl in_X0 rfl q335 rfl (xgr_spec ead29) dX0_meant_51 ?_
                    obtain ⟨v30, ev30, hs⟩ := hs
                    refine x_get (v := .int v30) X hK hI 4 0 rfl in_X4 rfl q252 rfl (xgi_spec ev30) dX0_meant_54 ?_
                    refine lv_icmp_ge (tgt := 86) hx hb dX0_meant_57 (by decide) (fun c36 => ?_) (fun c36 => ?_)
                    · replace hs := ifp c36 hs
                      exact W.widen (show ce48 ≤ (ce38 + 10) by omega) (show sl48 ≤ (sl38 + 20) by omega) (Ek86_20 _ _ _ _ hs hI (lv_sub hl [0, 1, 2, 3] rfl))
                    · replace hs := ifn c36 hs
                      refine lv_aload_n hx hb dX0_meant_60 rfl (lv_at hl 1 rfl) ?_
                      refine lv_iload hx hb dX0_meant_61 (lv_at hl 4 rfl) ?_
                      refine x_goi hA hI (vdc_X8_asInt (rest := []) X hK hA hG hI ad5 x26 _ hs q1332 ⟨(Nat.le_of_ble_eq_true rfl), (Nat.le_of_ble_eq_true rfl)⟩ hl.1 (Nat.le_of_ble_eq_true rfl) dX0_meant_63 ⟨(show ce48 ≤ 110 by omega), (show sl48 ≤ 2248 by omega)⟩) (fun r32 C31 H locs hs9 hI => ?_)
                      replace hs := hs9
                      refine lv_aload_n hx hb dX0_meant_66 rfl (lv_at hl 0 rfl) ?_
                      refine lv_iload hx hb dX0_meant_67 (lv_at hl 4 rfl) ?_
                      refine lv_iload hx hb dX0_meant_69 (lv_at hl 3 rfl) ?_
                      obtain ⟨h34, hs⟩ := hs
                      obtain ⟨fh34, h34⟩ := xcl_spec h34
                      refine x_goi hA hI (x_runV (As := [.int x26, .int x17]) (rest := [.int r32]) X hK hA hG hI h34 (q := (RX0, TX0, 10)) rfl rfl (xet_X0_timeAs l a0 x26 x17 _ _ hs) iX0_timeAs q1230 q1232 qs28 q94 ⟨(Nat.le_of_ble_eq_true rfl), (Nat.le_of_ble_eq_true rfl)⟩ rfl hl.1 rfl (Nat.le_of_ble_eq_true rfl) dX0_meant_71 ⟨(show (ce48 + 1) ≤ 110 by omega), (show (sl48 + 2) ≤ 2248 by omega)⟩) (fun r34 C33 H locs hs9 hI => ?_)
                      replace hs := hs9
                      refine lv_icmp_eq (tgt := 80) hx hb dX0_meant_74 (by decide) (fun c35 => ?_) (fun c35 => ?_)
                      · replace hs := ifp c35 hs
                        refine lv_iinc (v := (x26 + 1)) (lv' := [(5, .int (x26 + 1)), (0, .ref a0), (2, .ref ad5), (3, .int x16), (4, .int x17)]) hx hb dX0_meant_80 hl (k := 4) rfl (congrArg (fun z => x26 + z) (show Int32.ofInt (1) = 1 by decide)) (by decide) rfl (fun ls hl => ?_)
                        refine lv_goto (tgt := 48) hx hb dX0_meant_83 (by decide) ?_
                        exact ihx_X0_meant_l48 (ce48 + 1) (sl48 + 2) (by omega) (by omega) _ _ _ _ _ hs hI (lv_sub hl [1, 2, 3, 4, 0] rfl)
                      · replace hs := ifn c35 hs
                        exact W.widen (show (ce48 + 1) ≤ (ce38 + 10) by omega) (show (sl48 + 2) ≤ (sl38 + 20) by omega) (Ek77_22 _ _ _ _ hs hI (lv_sub hl [0, 1, 2, 3] rfl))
                have hNF := NF9_eq
                exact Lx_X0_meant_l48 NF9 ce38 sl38 (by omega) (by omega) _ _ _ _ _ hs hI (lv_sub hl [1, 2, 3, 4, 0] rfl)
          have hNF := NF9_eq
          exact Lx_X0_meant_l38 NF9 10 2048 (by omega) (by omega) _ _ _ _ _ _ hs hI (lv_sub hl [2, 3, 1, 0] rfl)
      refine lv_icmp_lt (tgt := 27) hx hb dX0_meant_20 (by decide) (fun c43 => ?_) (fun c43 => ?_)
      · replace hs := ifp c43 hs
        refine lv_iconst (v := 0) hx hb dX0_meant_27 (by decide) ?_
        exact Ek28_11 _ _ _ _ hs hI (lv_sub hl [1, 0] rfl)
      · replace hs := ifn c43 hs
        refine lv_iconst (v := 1) hx hb dX0_meant_23 (by decide) ?_
        refine lv_goto (tgt := 28) hx hb dX0_meant_24 (by decide) ?_
        exact Ek28_11 _ _ _ _ hs hI (lv_sub hl [1, 0] rfl)
def x_X0_worn_l10 (K : Int32 → XH → Prop) (a0 : Nat) (a1 : Int32) (a2 : Int32) : Nat → Int32 → Int32 → XH → Prop
  | 0, _, _, _ => False
  | n10_5 + 1, x3, x4, C5 => obd (xgr C5 (xis 0) a0 7) (fun ad7 => obd (xgi C5 (xis 4) ad7 1) (fun v8 => (if v8 ≤ x4 then K x3 C5 else (xcl C5 a0 = some 0 ∧ x_X0_timeIn a0 a1 x4 C5 (fun r10 C9 => jn (fun (v12 : Int32) => x_X0_worn_l10 K a0 a1 a2 n10_5 (x3 ||| v12) (x4 + 1) C9) (fun k42_12 => (if r10 = a2 then k42_12 (1 <<< (x4 &&& 31)) else k42_12 0)))))))
theorem x_X0_worn_l10_s (K : Int32 → XH → Prop) (a0 : Nat) (a1 : Int32) (a2 : Int32) (n10_5 : Nat) (x3 : Int32) (x4 : Int32) (C5 : XH) : x_X0_worn_l10 K a0 a1 a2 (n10_5 + 1) x3 x4 C5 = (obd (xgr C5 (xis 0) a0 7) (fun ad7 => obd (xgi C5 (xis 4) ad7 1) (fun v8 => (if v8 ≤ x4 then K x3 C5 else (xcl C5 a0 = some 0 ∧ x_X0_timeIn a0 a1 x4 C5 (fun r10 C9 => jn (fun (v12 : Int32) => x_X0_worn_l10 K a0 a1 a2 n10_5 (x3 ||| v12) (x4 + 1) C9) (fun k42_12 => (if r10 = a2 then k42_12 (1 <<< (x4 &&& 31)) else k42_12 0)))))))) := rfl
def x_X0_worn (a0 : Nat) (a1 : Int32) (a2 : Int32) (C : XH) (K : Int32 → XH → Prop) : Prop := (xcl C a0 = some 0 ∧ x_X0_mustChild a0 a1 C (fun C1 => x_X0_worn_l10 K a0 a1 a2 NF 0 0 C1) (fun ad15 C16 => (xcl C16 a0 = some 0 ∧ x_X0_refused a0 ad15 C16 (fun r18 C17 => K r18 C17))))
theorem iX0_worn : xInfW yX0_worn cX0_worn 5 (some .int) [(0, 51, 52, 21)] 2 := ⟨q1340, by decide +kernel⟩
set_option maxHeartbeats 4000000 in
theorem xet_X0_worn (l : Launch) (hl0 : l.stackTraces = false) (a0 : Nat) (a1 : Int32) (a2 : Int32) (C : XH) (K : Int32 → XH → Prop) (hs : x_X0_worn a0 a1 a2 C K) : xMetX l yX0_worn (wsW_ yX0_worn cX0_worn 5 (some .int) [(0, 51, 52, 21)]) 8 182 1 7 C [.ref a0, .int a1, .int a2] (fun D dT A => xQi D dT K A) xE0 := by
  intro D dT adK adV sz
  refine xEnterW (own := RX0) (Qc := xQi D dT K) (XC := xXC D dT xE0) (by decide) rfl (by rfl) ?_
  intro p e s m args below meth c A ls X hnm hK hA hG hT hI hl
  have hx := X.1
  have hb := X.2.1
  have hts := X.2.2.2.2.1
  have hown := X.2.2.2.2.2.1
  have hl : lv_has ls 5 [(0, .ref a0), (1, .int a1), (2, .int a2)] := hl
  unfold x_X0_worn at hs
  refine lv_aload_n hx hb dX0_worn_0 rfl (lv_at hl 0 rfl) ?_
  refine lv_iload_n hx hb dX0_worn_1 rfl (lv_at hl 1 rfl) ?_
  obtain ⟨h1, hs⟩ := hs
  obtain ⟨fh1, h1⟩ := xcl_spec h1
  refine xT_gov hA hI (x_runVT (As := [.int a1]) (rest := []) X hK hA hG hI h1 (q := (RX0, TX0, 10)) rfl rfl (xet_X0_mustChild l hl0 a0 a1 _ _ _ hs) iX0_mustChild q649 q651 qs3 q94 ⟨(Nat.le_of_ble_eq_true rfl), (Nat.le_of_ble_eq_true rfl)⟩ rfl hl.1 rfl (Nat.le_of_ble_eq_true rfl) dX0_worn_2 ⟨(Nat.le_of_ble_eq_true rfl), (Nat.le_of_ble_eq_true rfl)⟩) (fun En ce ad15 C16 H locs hs9 hI hce hvm hcl => ?_) (fun C1 H locs hs9 hI => ?_)
  · obtain ⟨rfl, hs0⟩ := hs9
    replace hs := hs0
    refine x_catch (k := 0) (a1 := 0) (a2 := 51) (a3 := 52) (a4 := 21) X hG hT rfl (x_cov rfl) rfl (by decide) q363 (by decide) hce hvm hcl ?_
    refine lv_astore_n (lv' := [(3, .ref ad15), (0, .ref a0), (1, .int a1), (2, .int a2)]) hx hb dX0_worn_52 rfl hl (by decide) rfl (fun ls hl => ?_)
    refine lv_aload_n hx hb dX0_worn_53 rfl (lv_at hl 1 rfl) ?_
    refine lv_aload_n hx hb dX0_worn_54 rfl (lv_at hl 0 rfl) ?_
    obtain ⟨h18, hs⟩ := hs
    obtain ⟨fh18, h18⟩ := xcl_spec h18
    refine x_goi hA hI (x_runV (As := [.ref ad15]) (rest := []) X hK hA hG hI h18 (q := (RX0, TX0, 10)) rfl rfl (xet_X0_refused l a0 ad15 _ _ hs) iX0_refused q538 q540 qs2 q94 ⟨(Nat.le_of_ble_eq_true rfl), (Nat.le_of_ble_eq_true rfl)⟩ rfl hl.1 rfl (Nat.le_of_ble_eq_true rfl) dX0_worn_55 ⟨(Nat.le_of_ble_eq_true rfl), (Nat.le_of_ble_eq_true rfl)⟩) (fun r18 C17 H locs hs9 hI => ?_)
    replace hs := hs9
    exact vx_ret (x_reti X hK hI hs (Nat.le_of_ble_eq_true rfl) (Nat.le_of_ble_eq_true rfl) dX0_worn_58)
  · replace hs := hs9
    refine lv_iconst (v := 0) hx hb dX0_worn_5 (by decide) ?_
    refine lv_istore_n (lv' := [(3, .int 0), (0, .ref a0), (1, .int a1), (2, .int a2)]) hx hb dX0_worn_6 rfl hl (by decide) rfl (fun ls hl => ?_)
    refine lv_iconst (v := 0) hx hb dX0_worn_7 (by decide) ?_
    refine lv_istore (lv' := [(4, .int 0), (3, .int 0), (0, .ref a0), (1, .int a1), (2, .int a2)]) hx hb dX0_worn_8 hl (by decide) rfl (fun ls hl => ?_)
    have Lx_X0_worn_l10 : ∀ (n10_5 : Nat) (x3 : Int32) (x4 : Int32) (C5 : XH) (H : Heap) (locs : List Loc) (ls : Array Slot), x_X0_worn_l10 K a0 a1 a2 n10_5 x3 x4 C5 → xI D dT A s.heap C5 H locs → lv_has ls 5 [(0, .ref a0), (1, .int a1), (2, .int a2), (3, .int x3), (4, .int x4)] → W p l e (xRm 8 182 1 7) s m args below meth c H locs 1 7 (vx_MQ below (xQi D dT K A) (xXC D dT xE0 A) args s 1 7 A) (F0 m 10 ls []) := by
      intro n10_5
      induction n10_5 with
      | zero =>
        intro x3 x4 C5 H locs ls hs
        exact False.elim hs
      | succ n10_5 ihx_X0_worn_l10 =>
        intro x3 x4 C5 H locs ls hs hI hl
        rw [x_X0_worn_l10_s] at hs
        refine lv_iload hx hb dX0_worn_10 (lv_at hl 4 rfl) ?_
        refine lv_aload_n hx hb dX0_worn_12 rfl (lv_at hl 0 rfl) ?_
        obtain ⟨ad7, ead7, hs⟩ := hs
        refine x_get (v := .ref ad7) X hK hI 0 7 rfl in_X0 rfl q335 rfl (xgr_spec ead7) dX0_worn_13 ?_
        obtain ⟨v8, ev8, hs⟩ := hs
        refine x_get (v := .int v8) X hK hI 4 1 rfl in_X4 rfl q257 rfl (xgi_spec ev8) dX0_worn_16 ?_
        refine lv_icmp_ge (tgt := 50) hx hb dX0_worn_19 (by decide) (fun c13 => ?_) (fun c13 => ?_)
        · replace hs := ifp c13 hs
          refine lv_iload_n hx hb dX0_worn_50 rfl (lv_at hl 3 rfl) ?_
          exact vx_ret (x_reti X hK hI hs (Nat.le_of_ble_eq_true rfl) (Nat.le_of_ble_eq_true rfl) dX0_worn_51)
        · replace hs := ifn c13 hs
          refine lv_iload_n hx hb dX0_worn_22 rfl (lv_at hl 3 rfl) ?_
          refine lv_aload_n hx hb dX0_worn_23 rfl (lv_at hl 0 rfl) ?_
          refine lv_iload_n hx hb dX0_worn_24 rfl (lv_at hl 1 rfl) ?_
          refine lv_iload hx hb dX0_worn_25 (lv_at hl 4 rfl) ?_
          obtain ⟨h10, hs⟩ := hs
          obtain ⟨fh10, h10⟩ := xcl_spec h10
          refine x_goi hA hI (x_runV (As := [.int a1, .int x4]) (rest := [.int x3]) X hK hA hG hI h10 (q := (RX0, TX0, 10)) rfl rfl (xet_X0_timeIn l a0 a1 x4 _ _ hs) iX0_timeIn q1240 q1242 qs30 q94 ⟨(Nat.le_of_ble_eq_true rfl), (Nat.le_of_ble_eq_true rfl)⟩ rfl hl.1 rfl (Nat.le_of_ble_eq_true rfl) dX0_worn_27 ⟨(Nat.le_of_ble_eq_true rfl), (Nat.le_of_ble_eq_true rfl)⟩) (fun r10 C9 H locs hs9 hI => ?_)
          replace hs := hs9
          refine lv_iload_n hx hb dX0_worn_30 rfl (lv_at hl 2 rfl) ?_
          obtain ⟨k42_12, hk42_12, hs⟩ := jn_ex hs
          have Ek42_12 : ∀ (v12 : Int32) (H : Heap) (locs : List Loc) (ls : Array Slot), k42_12 v12 → xI D dT A s.heap C9 H locs → lv_has ls 5 [(0, .ref a0), (1, .int a1), (2, .int a2), (4, .int x4)] → W p l e (xRm 8 182 1 7) s m args below meth c H locs 1 7 (vx_MQ below (xQi D dT K A) (xXC D dT xE0 A) args s 1 7 A) (F0 m 42 ls [.int v12, .int x3]) := by
            intro v12 H locs ls hs hI hl
            rw [hk42_12] at hs
            refine lv_ior hx hb dX0_worn_42 ?_
            refine lv_istore_n (lv' := [(3, .int (x3 ||| v12)), (0, .ref a0), (1, .int a1), (2, .int a2), (4, .int x4)]) hx hb dX0_worn_43 rfl hl (by decide) rfl (fun ls hl => ?_)
            refine lv_iinc (v := (x4 + 1)) (lv' := [(4, .int (x4 + 1)), (3, .int (x3 ||| v12)), (0, .ref a0), (1, .int a1), (2, .int a2)]) hx hb dX0_worn_44 hl (k := 4) rfl (congrArg (fun z => x4 + z) (show Int32.ofInt (1) = 1 by decide)) (by decide) rfl (fun ls hl => ?_)
            refine lv_goto (tgt := 10) hx hb dX0_worn_47 (by decide) ?_
            exact ihx_X0_worn_l10 _ _ _ _ _ _ hs hI (lv_sub hl [2, 3, 4, 1, 0] rfl)
          refine lv_icmp_ne (tgt := 41) hx hb dX0_worn_31 (by decide) (fun c12 => ?_) (fun c12 => ?_)
          · replace hs := ifn c12 hs
            refine lv_iconst (v := 0) hx hb dX0_worn_41 (by decide) ?_
            exact Ek42_12 _ _ _ _ hs hI (lv_sub hl [0, 1, 2, 4] rfl)
          · replace hs := ifp c12 hs
            refine lv_iconst (v := 1) hx hb dX0_worn_34 (by decide) ?_
            refine lv_iload hx hb dX0_worn_35 (lv_at hl 4 rfl) ?_
            refine lv_ishl hx hb dX0_worn_37 ?_
            refine lv_goto (tgt := 42) hx hb dX0_worn_38 (by decide) ?_
            exact Ek42_12 _ _ _ _ hs hI (lv_sub hl [0, 1, 2, 4] rfl)
    exact Lx_X0_worn_l10 NF _ _ _ _ _ _ hs hI (lv_sub hl [2, 3, 4, 1, 0] rfl)
def x_X4_draw (a0 : Nat) (a1 : Int32) (C : XH) (K : Int32 → XH → Prop) : Prop := obd (xgi C (xis 4) a0 4) (fun v1 => obd (xpv C (xis 4) a0 4 (.int ((v1 * 1103515245) + 12345))) (fun C2 => obd (xgi C2 (xis 4) a0 4) (fun v3 => (¬ (a1 : Int32) = 0 ∧ K ((((v3 : Int32).toUInt32 >>> ((16 : Int32).toUInt32 &&& Int32.toUInt32 31)).toInt32) - (((v3 : Int32).toUInt32 >>> ((16 : Int32).toUInt32 &&& Int32.toUInt32 31)).toInt32) / a1 * a1) C2))))
theorem iX4_draw : xInf yX4_draw cX4_draw 2 (some .int) 1 := ⟨q1357, by decide +kernel⟩
set_option maxHeartbeats 4000000 in
theorem xet_X4_draw (l : Launch) (a0 : Nat) (a1 : Int32) (C : XH) (K : Int32 → XH → Prop) (hs : x_X4_draw a0 a1 C K) : xMeti l yX4_draw (ws_ yX4_draw cX4_draw 2 (some .int)) 0 0 0 0 C [.ref a0, .int a1] K := by
  intro D dT adK adV sz
  refine xEnter (own := RX4) (Qc := xQi D dT K) (by decide) rfl (by rfl) ?_
  intro p e s m args below meth c A ls X hnm hK hA hG hI hl
  have hx := X.1
  have hb := X.2.1
  have hts := X.2.2.2.2.1
  have hown := X.2.2.2.2.2.1
  have hl : lv_has ls 2 [(0, .ref a0), (1, .int a1)] := hl
  unfold x_X4_draw at hs
  refine lv_aload_n hx hb dX4_draw_0 rfl (lv_at hl 0 rfl) ?_
  refine lv_aload_n hx hb dX4_draw_1 rfl (lv_at hl 0 rfl) ?_
  obtain ⟨v1, ev1, hs⟩ := hs
  refine x_get (v := .int v1) X hK hI 4 4 rfl in_X4 rfl q263 rfl (xgi_spec ev1) dX4_draw_2 ?_
  refine lv_ldc hx hb hown (hts _ q1358) dX4_draw_5 ?_
  refine lv_imul hx hb dX4_draw_7 ?_
  refine lv_sipush (v := 12345) hx hb dX4_draw_8 (by decide) ?_
  refine lv_iadd hx hb dX4_draw_11 ?_
  obtain ⟨C2, eC2, hs⟩ := hs
  refine x_put X hK hI 4 4 rfl in_X4 tyX4 tyX4_ok nmX4 rfl q263 rfl rfl rfl rfl eC2 dX4_draw_12 (fun H locs hI => ?_)
  refine lv_aload_n hx hb dX4_draw_15 rfl (lv_at hl 0 rfl) ?_
  obtain ⟨v3, ev3, hs⟩ := hs
  refine x_get (v := .int v3) X hK hI 4 4 rfl in_X4 rfl q263 rfl (xgi_spec ev3) dX4_draw_16 ?_
  refine lv_bipush (v := 16) hx hb dX4_draw_19 (by decide) ?_
  refine lv_iushr (v := (((v3 : Int32).toUInt32 >>> ((16 : Int32).toUInt32 &&& Int32.toUInt32 31)).toInt32)) hx hb dX4_draw_21 rfl ?_
  refine lv_iload_n hx hb dX4_draw_22 rfl (lv_at hl 1 rfl) ?_
  obtain ⟨z3, hs⟩ := hs
  refine lv_irem hx hb dX4_draw_23 z3 ?_
  exact x_reti X hK hI hs (Nat.le_of_ble_eq_true rfl) (Nat.le_of_ble_eq_true rfl) dX4_draw_24
