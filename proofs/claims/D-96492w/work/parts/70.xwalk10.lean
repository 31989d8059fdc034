set_option maxRecDepth 100000
def x_X2_passesMany_l2 (K : Nat → XH → Prop) (a0 : Nat) (a1 : Int32) : Nat → Int32 → XH → Prop
  | 0, _, _ => False
  | n2_2 + 1, x1, C2 => (if a1 ≤ x1 then K a0 C2 else (xcl C2 a0 = some 2 ∧ x_X2_isThere a0 C2 (fun r5 C4 => (if r5 = 0 then (xcl C4 a0 = some 2 ∧ x_X2_passes a0 C4 (fun C7 => x_X2_passesMany_l2 K a0 a1 n2_2 (x1 + 1) C7)) else K a0 C4))))
theorem x_X2_passesMany_l2_s (K : Nat → XH → Prop) (a0 : Nat) (a1 : Int32) (n2_2 : Nat) (x1 : Int32) (C2 : XH) : x_X2_passesMany_l2 K a0 a1 (n2_2 + 1) x1 C2 = ((if a1 ≤ x1 then K a0 C2 else (xcl C2 a0 = some 2 ∧ x_X2_isThere a0 C2 (fun r5 C4 => (if r5 = 0 then (xcl C4 a0 = some 2 ∧ x_X2_passes a0 C4 (fun C7 => x_X2_passesMany_l2 K a0 a1 n2_2 (x1 + 1) C7)) else K a0 C4))))) := rfl
def x_X2_passesMany (a0 : Nat) (a1 : Int32) (C : XH) (K : Nat → XH → Prop) : Prop := x_X2_passesMany_l2 K a0 a1 NF 0 C
theorem iX2_passesMany : xInf yX2_passesMany cX2_passesMany 3 (some (.object RX2)) 1 := ⟨q1157, by decide +kernel⟩
set_option maxHeartbeats 4000000 in
theorem xet_X2_passesMany (l : Launch) (a0 : Nat) (a1 : Int32) (C : XH) (K : Nat → XH → Prop) (hs : x_X2_passesMany a0 a1 C K) : xMetr l yX2_passesMany (ws_ yX2_passesMany cX2_passesMany 3 (some (.object RX2))) 4 86 0 0 C [.ref a0, .int a1] K := by
  intro D dT adK adV sz
  refine xEnter (own := RX2) (Qc := xQr D dT K) (by decide) rfl (by rfl) ?_
  intro p e s m args below meth c A ls X hnm hK hA hG hI hl
  have hx := X.1
  have hb := X.2.1
  have hts := X.2.2.2.2.1
  have hown := X.2.2.2.2.2.1
  have hl : lv_has ls 3 [(0, .ref a0), (1, .int a1)] := hl
  unfold x_X2_passesMany at hs
  refine lv_iconst (v := 0) hx hb dX2_passesMany_0 (by decide) ?_
  refine lv_istore_n (lv' := [(2, .int 0), (0, .ref a0), (1, .int a1)]) hx hb dX2_passesMany_1 rfl hl (by decide) rfl (fun ls hl => ?_)
  have Lx_X2_passesMany_l2 : ∀ (n2_2 : Nat) (x1 : Int32) (C2 : XH) (H : Heap) (locs : List Loc) (ls : Array Slot), x_X2_passesMany_l2 K a0 a1 n2_2 x1 C2 → xI D dT A s.heap C2 H locs → lv_has ls 3 [(0, .ref a0), (1, .int a1), (2, .int x1)] → W p l e (xRm 4 86 0 0) s m args below meth c H locs 0 0 (MQ below (xQr D dT K A) args s 0 0 A) (F0 m 2 ls []) := by
    intro n2_2
    induction n2_2 with
    | zero =>
      intro x1 C2 H locs ls hs
      exact False.elim hs
    | succ n2_2 ihx_X2_passesMany_l2 =>
      intro x1 C2 H locs ls hs hI hl
      rw [x_X2_passesMany_l2_s] at hs
      refine lv_iload_n hx hb dX2_passesMany_2 rfl (lv_at hl 2 rfl) ?_
      refine lv_iload_n hx hb dX2_passesMany_3 rfl (lv_at hl 1 rfl) ?_
      refine lv_icmp_ge (tgt := 24) hx hb dX2_passesMany_4 (by decide) (fun c9 => ?_) (fun c9 => ?_)
      · replace hs := ifp c9 hs
        refine lv_aload_n hx hb dX2_passesMany_24 rfl (lv_at hl 0 rfl) ?_
        exact x_retr X hK hI hs (Nat.le_of_ble_eq_true rfl) (Nat.le_of_ble_eq_true rfl) dX2_passesMany_25
      · replace hs := ifn c9 hs
        refine lv_aload_n hx hb dX2_passesMany_7 rfl (lv_at hl 0 rfl) ?_
        obtain ⟨h5, hs⟩ := hs
        obtain ⟨fh5, h5⟩ := xcl_spec h5
        refine x_goz hA hI (x_runV (As := []) (rest := []) X hK hA hG hI h5 (q := (RX2, TX2, 12)) rfl rfl (xet_X2_isThere l a0 _ _ hs) iX2_isThere q1158 q1159 q1160 q96 ⟨(Nat.le_of_ble_eq_true rfl), (Nat.le_of_ble_eq_true rfl)⟩ rfl hl.1 rfl (Nat.le_of_ble_eq_true rfl) dX2_passesMany_8 ⟨(Nat.le_of_ble_eq_true rfl), (Nat.le_of_ble_eq_true rfl)⟩) (fun r5 C4 H locs br5 hs9 hI => ?_)
        replace hs := hs9
        refine lv_if_ne (tgt := 24) hx hb dX2_passesMany_11 (by decide) (fun c8 => ?_) (fun c8 => ?_)
        · replace hs := ifn c8 hs
          refine lv_aload_n hx hb dX2_passesMany_24 rfl (lv_at hl 0 rfl) ?_
          exact x_retr X hK hI hs (Nat.le_of_ble_eq_true rfl) (Nat.le_of_ble_eq_true rfl) dX2_passesMany_25
        · replace hs := ifp c8 hs
          refine lv_aload_n hx hb dX2_passesMany_14 rfl (lv_at hl 0 rfl) ?_
          obtain ⟨h7, hs⟩ := hs
          obtain ⟨fh7, h7⟩ := xcl_spec h7
          refine x_gov hA hI (x_runV (As := []) (rest := []) X hK hA hG hI h7 (q := (RX2, TX2, 12)) rfl rfl (xet_X2_passes l a0 _ _ hs) iX2_passes q1162 q1163 q1164 q96 ⟨(Nat.le_of_ble_eq_true rfl), (Nat.le_of_ble_eq_true rfl)⟩ rfl hl.1 rfl (Nat.le_of_ble_eq_true rfl) dX2_passesMany_15 ⟨(Nat.le_of_ble_eq_true rfl), (Nat.le_of_ble_eq_true rfl)⟩) (fun C7 H locs hs9 hI => ?_)
          replace hs := hs9
          refine lv_iinc (v := (x1 + 1)) (lv' := [(2, .int (x1 + 1)), (0, .ref a0), (1, .int a1)]) hx hb dX2_passesMany_18 hl (k := 2) rfl (congrArg (fun z => x1 + z) (show Int32.ofInt (1) = 1 by decide)) (by decide) rfl (fun ls hl => ?_)
          refine lv_goto (tgt := 2) hx hb dX2_passesMany_21 (by decide) ?_
          exact ihx_X2_passesMany_l2 _ _ _ _ _ hs hI (lv_sub hl [1, 2, 0] rfl)
  exact Lx_X2_passesMany_l2 NF _ _ _ _ _ hs hI (lv_sub hl [1, 2, 0] rfl)
def x_X0_behind (a0 : Nat) (a1 : Int32) (a2 : Int32) (a3 : Int32) (C : XH) (K : Int32 → XH → Prop) : Prop := (xcl C a0 = some 0 ∧ x_X0_mustChild a0 a1 C (fun C1 => x_X0_in ((a3 : Int32).toInt64) 0 4 C1 (fun r4 C3 => x_X0_need r4 (-5) C3 (fun C5 => x_X0_in ((a2 : Int32).toInt64) 0 999 C5 (fun r7 C6 => x_X0_need r7 (-6) C6 (fun C8 => obd (xgr C8 (xis 0) a0 3) (fun ad9 => obd (xgr C8 (xis 0) a0 7) (fun ad10 => (xcl C8 ad9 = some 2 ∧ x_X2_of ad9 ad10 a1 C8 (fun ad12 C11 => (xcl C11 ad12 = some 2 ∧ x_X2_passesMany ad12 a2 C11 (fun ad15 C14 => (if a3 = 0 then obd (xgi C14 (xis 2) ad15 5) (fun v18 => K v18 C14) else if a3 = 1 then obd (xgi C14 (xis 2) ad15 6) (fun v19 => K v19 C14) else if a3 = 2 then obd (xgi C14 (xis 2) ad15 7) (fun v20 => K v20 C14) else if a3 = 3 then obd (xgi C14 (xis 2) ad15 8) (fun v21 => K v21 C14) else obd (xgi C14 (xis 2) ad15 9) (fun v22 => K v22 C14))))))))) (fun ad23 C24 => (xcl C24 a0 = some 0 ∧ x_X0_refused a0 ad23 C24 (fun r26 C25 => K r26 C25))))) (fun ad28 C29 => (xcl C29 a0 = some 0 ∧ x_X0_refused a0 ad28 C29 (fun r31 C30 => K r31 C30))))) (fun ad33 C34 => (xcl C34 a0 = some 0 ∧ x_X0_refused a0 ad33 C34 (fun r36 C35 => K r36 C35))))
theorem iX0_behind : xInfW yX0_behind cX0_behind 5 (some .int) [(0, 89, 114, 21), (90, 95, 114, 21), (96, 101, 114, 21), (102, 107, 114, 21), (108, 113, 114, 21)] 3 := ⟨q1133, by decide +kernel⟩
set_option maxHeartbeats 4000000 in
theorem xet_X0_behind (l : Launch) (hl0 : l.stackTraces = false) (a0 : Nat) (a1 : Int32) (a2 : Int32) (a3 : Int32) (C : XH) (K : Int32 → XH → Prop) (hs : x_X0_behind a0 a1 a2 a3 C K) : xMetX l yX0_behind (wsW_ yX0_behind cX0_behind 5 (some .int) [(0, 89, 114, 21), (90, 95, 114, 21), (96, 101, 114, 21), (102, 107, 114, 21), (108, 113, 114, 21)]) 8 182 3 21 C [.ref a0, .int a1, .int a2, .int a3] (fun D dT A => xQi D dT K A) xE0 := by
  intro D dT adK adV sz
  refine xEnterW (own := RX0) (Qc := xQi D dT K) (XC := xXC D dT xE0) (by decide) rfl (by rfl) ?_
  intro p e s m args below meth c A ls X hnm hK hA hG hT hI hl
  have hx := X.1
  have hb := X.2.1
  have hts := X.2.2.2.2.1
  have hown := X.2.2.2.2.2.1
  have hl : lv_has ls 5 [(0, .ref a0), (1, .int a1), (2, .int a2), (3, .int a3)] := hl
  unfold x_X0_behind at hs
  refine lv_aload_n hx hb dX0_behind_0 rfl (lv_at hl 0 rfl) ?_
  refine lv_iload_n hx hb dX0_behind_1 rfl (lv_at hl 1 rfl) ?_
  obtain ⟨h1, hs⟩ := hs
  obtain ⟨fh1, h1⟩ := xcl_spec h1
  refine xT_gov hA hI (x_runVT (As := [.int a1]) (rest := []) X hK hA hG hI h1 (q := (RX0, TX0, 10)) rfl rfl (xet_X0_mustChild l hl0 a0 a1 _ _ _ hs) iX0_mustChild q649 q651 qs3 q94 ⟨(Nat.le_of_ble_eq_true rfl), (Nat.le_of_ble_eq_true rfl)⟩ rfl hl.1 rfl (Nat.le_of_ble_eq_true rfl) dX0_behind_2 ⟨(Nat.le_of_ble_eq_true rfl), (Nat.le_of_ble_eq_true rfl)⟩) (fun En ce ad33 C34 H locs hs9 hI hce hvm hcl => ?_) (fun C1 H locs hs9 hI => ?_)
  · obtain ⟨rfl, hs0⟩ := hs9
    replace hs := hs0
    refine x_catch (k := 0) (a1 := 0) (a2 := 89) (a3 := 114) (a4 := 21) X hG hT rfl (x_cov rfl) rfl (by decide) q363 (by decide) hce hvm hcl ?_
    refine lv_astore (lv' := [(4, .ref ad33), (0, .ref a0), (1, .int a1), (2, .int a2), (3, .int a3)]) hx hb dX0_behind_114 hl (by decide) rfl (fun ls hl => ?_)
    refine lv_aload_n hx hb dX0_behind_116 rfl (lv_at hl 1 rfl) ?_
    refine lv_aload hx hb dX0_behind_117 (lv_at hl 0 rfl) ?_
    obtain ⟨h36, hs⟩ := hs
    obtain ⟨fh36, h36⟩ := xcl_spec h36
    refine x_goi hA hI (x_runV (As := [.ref ad33]) (rest := []) X hK hA hG hI h36 (q := (RX0, TX0, 10)) rfl rfl (xet_X0_refused l a0 ad33 _ _ hs) iX0_refused q538 q540 qs2 q94 ⟨(Nat.le_of_ble_eq_true rfl), (Nat.le_of_ble_eq_true rfl)⟩ rfl hl.1 rfl (Nat.le_of_ble_eq_true rfl) dX0_behind_119 ⟨(Nat.le_of_ble_eq_true rfl), (Nat.le_of_ble_eq_true rfl)⟩) (fun r36 C35 H locs hs9 hI => ?_)
    replace hs := hs9
    exact vx_ret (x_reti X hK hI hs (Nat.le_of_ble_eq_true rfl) (Nat.le_of_ble_eq_true rfl) dX0_behind_122)
  · replace hs := hs9
    refine lv_iload_n hx hb dX0_behind_5 rfl (lv_at hl 3 rfl) ?_
    refine lv_i2l (v := ((a3 : Int32).toInt64)) hx hb dX0_behind_6 rfl ?_
    refine lv_lconst (v := 0) hx hb dX0_behind_7 (by decide) ?_
    refine lv_ldc2 hx hb hown (hts _ q1134) dX0_behind_8 ?_
    refine x_goz hA hI (x_runS (As := [.long ((a3 : Int32).toInt64), .long 0, .long 4]) (rest := []) X hK hA hG hI (xet_X0_in l ((a3 : Int32).toInt64) 0 4 _ _ hs) iX0_in q473 q474 q94 ⟨(Nat.le_of_ble_eq_true rfl), (Nat.le_of_ble_eq_true rfl)⟩ rfl hl.1 rfl (Nat.le_of_ble_eq_true rfl) dX0_behind_11 ⟨(Nat.le_of_ble_eq_true rfl), (Nat.le_of_ble_eq_true rfl)⟩) (fun r4 C3 H locs br4 hs9 hI => ?_)
    replace hs := hs9
    refine lv_bipush (v := (-5)) hx hb dX0_behind_14 (by decide) ?_
    refine xT_gov hA hI (x_runST (As := [.int r4, .int (-5)]) (rest := []) X hK hA hG hI (xet_X0_need l hl0 r4 (-5) _ _ _ hs) iX0_need q469 q470 q94 ⟨(Nat.le_of_ble_eq_true rfl), (Nat.le_of_ble_eq_true rfl)⟩ rfl hl.1 rfl (Nat.le_of_ble_eq_true rfl) dX0_behind_16 ⟨(Nat.le_of_ble_eq_true rfl), (Nat.le_of_ble_eq_true rfl)⟩) (fun En ce ad28 C29 H locs hs9 hI hce hvm hcl => ?_) (fun C5 H locs hs9 hI => ?_)
    · obtain ⟨rfl, hs0⟩ := hs9
      replace hs := hs0
      refine x_catch (k := 0) (a1 := 0) (a2 := 89) (a3 := 114) (a4 := 21) X hG hT rfl (x_cov rfl) rfl (by decide) q363 (by decide) hce hvm hcl ?_
      refine lv_astore (lv' := [(4, .ref ad28), (0, .ref a0), (1, .int a1), (2, .int a2), (3, .int a3)]) hx hb dX0_behind_114 hl (by decide) rfl (fun ls hl => ?_)
      refine lv_aload_n hx hb dX0_behind_116 rfl (lv_at hl 1 rfl) ?_
      refine lv_aload hx hb dX0_behind_117 (lv_at hl 0 rfl) ?_
      obtain ⟨h31, hs⟩ := hs
      obtain ⟨fh31, h31⟩ := xcl_spec h31
      refine x_goi hA hI (x_runV (As := [.ref ad28]) (rest := []) X hK hA hG hI h31 (q := (RX0, TX0, 10)) rfl rfl (xet_X0_refused l a0 ad28 _ _ hs) iX0_refused q538 q540 qs2 q94 ⟨(Nat.le_of_ble_eq_true rfl), (Nat.le_of_ble_eq_true rfl)⟩ rfl hl.1 rfl (Nat.le_of_ble_eq_true rfl) dX0_behind_119 ⟨(Nat.le_of_ble_eq_true rfl), (Nat.le_of_ble_eq_true rfl)⟩) (fun r31 C30 H locs hs9 hI => ?_)
      replace hs := hs9
      exact vx_ret (x_reti X hK hI hs (Nat.le_of_ble_eq_true rfl) (Nat.le_of_ble_eq_true rfl) dX0_behind_122)
    · replace hs := hs9
      refine lv_iload_n hx hb dX0_behind_19 rfl (lv_at hl 2 rfl) ?_
      refine lv_i2l (v := ((a2 : Int32).toInt64)) hx hb dX0_behind_20 rfl ?_
      refine lv_lconst (v := 0) hx hb dX0_behind_21 (by decide) ?_
      refine lv_ldc2 hx hb hown (hts _ q1135) dX0_behind_22 ?_
      refine x_goz hA hI (x_runS (As := [.long ((a2 : Int32).toInt64), .long 0, .long 999]) (rest := []) X hK hA hG hI (xet_X0_in l ((a2 : Int32).toInt64) 0 999 _ _ hs) iX0_in q473 q474 q94 ⟨(Nat.le_of_ble_eq_true rfl), (Nat.le_of_ble_eq_true rfl)⟩ rfl hl.1 rfl (Nat.le_of_ble_eq_true rfl) dX0_behind_25 ⟨(Nat.le_of_ble_eq_true rfl), (Nat.le_of_ble_eq_true rfl)⟩) (fun r7 C6 H locs br7 hs9 hI => ?_)
      replace hs := hs9
      refine lv_bipush (v := (-6)) hx hb dX0_behind_28 (by decide) ?_
      refine xT_gov hA hI (x_runST (As := [.int r7, .int (-6)]) (rest := []) X hK hA hG hI (xet_X0_need l hl0 r7 (-6) _ _ _ hs) iX0_need q469 q470 q94 ⟨(Nat.le_of_ble_eq_true rfl), (Nat.le_of_ble_eq_true rfl)⟩ rfl hl.1 rfl (Nat.le_of_ble_eq_true rfl) dX0_behind_30 ⟨(Nat.le_of_ble_eq_true rfl), (Nat.le_of_ble_eq_true rfl)⟩) (fun En ce ad23 C24 H locs hs9 hI hce hvm hcl => ?_) (fun C8 H locs hs9 hI => ?_)
      · obtain ⟨rfl, hs0⟩ := hs9
        replace hs := hs0
        refine x_catch (k := 0) (a1 := 0) (a2 := 89) (a3 := 114) (a4 := 21) X hG hT rfl (x_cov rfl) rfl (by decide) q363 (by decide) hce hvm hcl ?_
        refine lv_astore (lv' := [(4, .ref ad23), (0, .ref a0), (1, .int a1), (2, .int a2), (3, .int a3)]) hx hb dX0_behind_114 hl (by decide) rfl (fun ls hl => ?_)
        refine lv_aload_n hx hb dX0_behind_116 rfl (lv_at hl 1 rfl) ?_
        refine lv_aload hx hb dX0_behind_117 (lv_at hl 0 rfl) ?_
        obtain ⟨h26, hs⟩ := hs
        obtain ⟨fh26, h26⟩ := xcl_spec h26
        refine x_goi hA hI (x_runV (As := [.ref ad23]) (rest := []) X hK hA hG hI h26 (q := (RX0, TX0, 10)) rfl rfl (xet_X0_refused l a0 ad23 _ _ hs) iX0_refused q538 q540 qs2 q94 ⟨(Nat.le_of_ble_eq_true rfl), (Nat.le_of_ble_eq_true rfl)⟩ rfl hl.1 rfl (Nat.le_of_ble_eq_true rfl) dX0_behind_119 ⟨(Nat.le_of_ble_eq_true rfl), (Nat.le_of_ble_eq_true rfl)⟩) (fun r26 C25 H locs hs9 hI => ?_)
        replace hs := hs9
        exact vx_ret (x_reti X hK hI hs (Nat.le_of_ble_eq_true rfl) (Nat.le_of_ble_eq_true rfl) dX0_behind_122)
      · replace hs := hs9
        refine lv_aload_n hx hb dX0_behind_33 rfl (lv_at hl 0 rfl) ?_
        obtain ⟨ad9, ead9, hs⟩ := hs
        refine x_get (v := .ref ad9) X hK hI 0 3 rfl in_X0 rfl q331 rfl (xgr_spec ead9) dX0_behind_34 ?_
        refine lv_aload_n hx hb dX0_behind_37 rfl (lv_at hl 0 rfl) ?_
        obtain ⟨ad10, ead10, hs⟩ := hs
        refine x_get (v := .ref ad10) X hK hI 0 7 rfl in_X0 rfl q335 rfl (xgr_spec ead10) dX0_behind_38 ?_
        refine lv_iload_n hx hb dX0_behind_41 rfl (lv_at hl 1 rfl) ?_
        obtain ⟨h12, hs⟩ := hs
        obtain ⟨fh12, h12⟩ := xcl_spec h12
        refine x_gor hA hI (x_runV (As := [.ref ad10, .int a1]) (rest := []) X hK hA hG hI h12 (q := (RX2, TX2, 12)) rfl rfl (xet_X2_of l ad9 ad10 a1 _ _ hs) iX2_of q1136 q1137 q1138 q96 ⟨(Nat.le_of_ble_eq_true rfl), (Nat.le_of_ble_eq_true rfl)⟩ rfl hl.1 rfl (Nat.le_of_ble_eq_true rfl) dX0_behind_42 ⟨(Nat.le_of_ble_eq_true rfl), (Nat.le_of_ble_eq_true rfl)⟩) (fun ad12 C11 H locs hs9 hI => ?_)
        replace hs := hs9
        refine lv_iload_n hx hb dX0_behind_45 rfl (lv_at hl 2 rfl) ?_
        obtain ⟨h15, hs⟩ := hs
        obtain ⟨fh15, h15⟩ := xcl_spec h15
        refine x_gor hA hI (x_runV (As := [.int a2]) (rest := []) X hK hA hG hI h15 (q := (RX2, TX2, 12)) rfl rfl (xet_X2_passesMany l ad12 a2 _ _ hs) iX2_passesMany q1154 q1155 q1156 q96 ⟨(Nat.le_of_ble_eq_true rfl), (Nat.le_of_ble_eq_true rfl)⟩ rfl hl.1 rfl (Nat.le_of_ble_eq_true rfl) dX0_behind_46 ⟨(Nat.le_of_ble_eq_true rfl), (Nat.le_of_ble_eq_true rfl)⟩) (fun ad15 C14 H locs hs9 hI => ?_)
        replace hs := hs9
        refine lv_astore (lv' := [(4, .ref ad15), (0, .ref a0), (1, .int a1), (2, .int a2), (3, .int a3)]) hx hb dX0_behind_49 hl (by decide) rfl (fun ls hl => ?_)
        refine lv_iload_n hx hb dX0_behind_51 rfl (lv_at hl 4 rfl) ?_
        by_cases c16_0 : a3 = 0
        · replace hs := ifp c16_0 hs
          refine lv_tableIn (tgt := 84) hx hb dX0_behind_52 (by rw [c16_0]; decide) (by rw [c16_0]; decide) (by rw [c16_0]; rfl) (by decide) ?_
          refine lv_aload hx hb dX0_behind_84 (lv_at hl 0 rfl) ?_
          obtain ⟨v18, ev18, hs⟩ := hs
          refine x_get (v := .int v18) X hK hI 2 5 rfl in_X2 rfl q168 rfl (xgi_spec ev18) dX0_behind_86 ?_
          exact vx_ret (x_reti X hK hI hs (Nat.le_of_ble_eq_true rfl) (Nat.le_of_ble_eq_true rfl) dX0_behind_89)
        · replace hs := ifn c16_0 hs
          by_cases c16_1 : a3 = 1
          · replace hs := ifp c16_1 hs
            refine lv_tableIn (tgt := 90) hx hb dX0_behind_52 (by rw [c16_1]; decide) (by rw [c16_1]; decide) (by rw [c16_1]; rfl) (by decide) ?_
            refine lv_aload hx hb dX0_behind_90 (lv_at hl 0 rfl) ?_
            obtain ⟨v19, ev19, hs⟩ := hs
            refine x_get (v := .int v19) X hK hI 2 6 rfl in_X2 rfl q170 rfl (xgi_spec ev19) dX0_behind_92 ?_
            exact vx_ret (x_reti X hK hI hs (Nat.le_of_ble_eq_true rfl) (Nat.le_of_ble_eq_true rfl) dX0_behind_95)
          · replace hs := ifn c16_1 hs
            by_cases c16_2 : a3 = 2
            · replace hs := ifp c16_2 hs
              refine lv_tableIn (tgt := 96) hx hb dX0_behind_52 (by rw [c16_2]; decide) (by rw [c16_2]; decide) (by rw [c16_2]; rfl) (by decide) ?_
              refine lv_aload hx hb dX0_behind_96 (lv_at hl 0 rfl) ?_
              obtain ⟨v20, ev20, hs⟩ := hs
              refine x_get (v := .int v20) X hK hI 2 7 rfl in_X2 rfl q172 rfl (xgi_spec ev20) dX0_behind_98 ?_
              exact vx_ret (x_reti X hK hI hs (Nat.le_of_ble_eq_true rfl) (Nat.le_of_ble_eq_true rfl) dX0_behind_101)
            · replace hs := ifn c16_2 hs
              by_cases c16_3 : a3 = 3
              · replace hs := ifp c16_3 hs
                refine lv_tableIn (tgt := 102) hx hb dX0_behind_52 (by rw [c16_3]; decide) (by rw [c16_3]; decide) (by rw [c16_3]; rfl) (by decide) ?_
                refine lv_aload hx hb dX0_behind_102 (lv_at hl 0 rfl) ?_
                obtain ⟨v21, ev21, hs⟩ := hs
                refine x_get (v := .int v21) X hK hI 2 8 rfl in_X2 rfl q174 rfl (xgi_spec ev21) dX0_behind_104 ?_
                exact vx_ret (x_reti X hK hI hs (Nat.le_of_ble_eq_true rfl) (Nat.le_of_ble_eq_true rfl) dX0_behind_107)
              · replace hs := ifn c16_3 hs
                refine lv_tableOut (tgt := 108) hx hb dX0_behind_52 (sw_out (fun k h1 h2 => by
                  have h3 : k = 0 ∨ k = 1 ∨ k = 2 ∨ k = 3 := by omega
                  rcases h3 with rfl | rfl | rfl | rfl
                  · exact lv_neT c16_0 rfl
                  · exact lv_neT c16_1 rfl
                  · exact lv_neT c16_2 rfl
                  · exact lv_neT c16_3 rfl
                  )) (by decide) ?_
                refine lv_aload hx hb dX0_behind_108 (lv_at hl 0 rfl) ?_
                obtain ⟨v22, ev22, hs⟩ := hs
                refine x_get (v := .int v22) X hK hI 2 9 rfl in_X2 rfl q176 rfl (xgi_spec ev22) dX0_behind_110 ?_
                exact vx_ret (x_reti X hK hI hs (Nat.le_of_ble_eq_true rfl) (Nat.le_of_ble_eq_true rfl) dX0_behind_113)
def x_X2_time (a0 : Nat) (C : XH) (K : Int32 → XH → Prop) : Prop := (xcl C a0 = some 2 ∧ x_X2_isThere a0 C (fun r2 C1 => (if r2 = 0 then K 999 C1 else obd (xgi C1 (xis 2) a0 11) (fun v4 => obd (xgi C1 (xis 2) a0 4) (fun v5 => K (imin 999 (v4 + v5)) C1)))))
theorem iX2_time : xInf yX2_time cX2_time 1 (some .int) 0 := ⟨q1205, by decide +kernel⟩
set_option maxHeartbeats 4000000 in
theorem xet_X2_time (l : Launch) (a0 : Nat) (C : XH) (K : Int32 → XH → Prop) (hs : x_X2_time a0 C K) : xMeti l yX2_time (ws_ yX2_time cX2_time 1 (some .int)) 1 24 0 0 C [.ref a0] K := by
  intro D dT adK adV sz
  refine xEnter (own := RX2) (Qc := xQi D dT K) (by decide) rfl (by rfl) ?_
  intro p e s m args below meth c A ls X hnm hK hA hG hI hl
  have hx := X.1
  have hb := X.2.1
  have hts := X.2.2.2.2.1
  have hown := X.2.2.2.2.2.1
  have hl : lv_has ls 1 [(0, .ref a0)] := hl
  unfold x_X2_time at hs
  refine lv_aload_n hx hb dX2_time_0 rfl (lv_at hl 0 rfl) ?_
  obtain ⟨h2, hs⟩ := hs
  obtain ⟨fh2, h2⟩ := xcl_spec h2
  refine x_goz hA hI (x_runV (As := []) (rest := []) X hK hA hG hI h2 (q := (RX2, TX2, 12)) rfl rfl (xet_X2_isThere l a0 _ _ hs) iX2_isThere q1158 q1159 q1160 q96 ⟨(Nat.le_of_ble_eq_true rfl), (Nat.le_of_ble_eq_true rfl)⟩ rfl hl.1 rfl (Nat.le_of_ble_eq_true rfl) dX2_time_1 ⟨(Nat.le_of_ble_eq_true rfl), (Nat.le_of_ble_eq_true rfl)⟩) (fun r2 C1 H locs br2 hs9 hI => ?_)
  replace hs := hs9
  refine lv_if_eq (tgt := 25) hx hb dX2_time_4 (by decide) (fun c5 => ?_) (fun c5 => ?_)
  · replace hs := ifp c5 hs
    refine lv_sipush (v := 999) hx hb dX2_time_25 (by decide) ?_
    exact x_reti X hK hI hs (Nat.le_of_ble_eq_true rfl) (Nat.le_of_ble_eq_true rfl) dX2_time_28
  · replace hs := ifn c5 hs
    refine lv_sipush (v := 999) hx hb dX2_time_7 (by decide) ?_
    refine lv_aload_n hx hb dX2_time_10 rfl (lv_at hl 0 rfl) ?_
    obtain ⟨v4, ev4, hs⟩ := hs
    refine x_get (v := .int v4) X hK hI 2 11 rfl in_X2 rfl q179 rfl (xgi_spec ev4) dX2_time_11 ?_
    refine lv_aload_n hx hb dX2_time_14 rfl (lv_at hl 0 rfl) ?_
    obtain ⟨v5, ev5, hs⟩ := hs
    refine x_get (v := .int v5) X hK hI 2 4 rfl in_X2 rfl q166 rfl (xgi_spec ev5) dX2_time_15 ?_
    refine lv_iadd hx hb dX2_time_18 ?_
    refine va_mmin (rest := []) hx hb (X.2.2.2.1.trans hl.1.symm) hown (hts _ q1174) (hts _ q1175) (hts _ q116) (hts _ q1176) (Nat.le_of_ble_eq_true rfl) (Nat.le_of_ble_eq_true rfl) (Nat.le_of_ble_eq_true rfl) (Nat.le_of_ble_eq_true rfl) dX2_time_19 ?_
    refine lv_goto (tgt := 28) hx hb dX2_time_22 (by decide) ?_
    exact x_reti X hK hI hs (Nat.le_of_ble_eq_true rfl) (Nat.le_of_ble_eq_true rfl) dX2_time_28
def x_X2_comesIn (a0 : Nat) (C : XH) (K : Int32 → XH → Prop) : Prop := (xcl C a0 = some 2 ∧ x_X2_passesMany a0 999 C (fun ad2 C1 => (xcl C1 a0 = some 2 ∧ x_X2_time a0 C1 (fun r5 C4 => K r5 C4))))
theorem iX2_comesIn : xInf yX2_comesIn cX2_comesIn 1 (some .int) 0 := ⟨q1200, by decide +kernel⟩
set_option maxHeartbeats 4000000 in
theorem xet_X2_comesIn (l : Launch) (a0 : Nat) (C : XH) (K : Int32 → XH → Prop) (hs : x_X2_comesIn a0 C K) : xMeti l yX2_comesIn (ws_ yX2_comesIn cX2_comesIn 1 (some .int)) 5 108 0 0 C [.ref a0] K := by
  intro D dT adK adV sz
  refine xEnter (own := RX2) (Qc := xQi D dT K) (by decide) rfl (by rfl) ?_
  intro p e s m args below meth c A ls X hnm hK hA hG hI hl
  have hx := X.1
  have hb := X.2.1
  have hts := X.2.2.2.2.1
  have hown := X.2.2.2.2.2.1
  have hl : lv_has ls 1 [(0, .ref a0)] := hl
  unfold x_X2_comesIn at hs
  refine lv_aload_n hx hb dX2_comesIn_0 rfl (lv_at hl 0 rfl) ?_
  refine lv_sipush (v := 999) hx hb dX2_comesIn_1 (by decide) ?_
  obtain ⟨h2, hs⟩ := hs
  obtain ⟨fh2, h2⟩ := xcl_spec h2
  refine x_gor hA hI (x_runV (As := [.int 999]) (rest := []) X hK hA hG hI h2 (q := (RX2, TX2, 12)) rfl rfl (xet_X2_passesMany l a0 999 _ _ hs) iX2_passesMany q1201 q1155 q1156 q96 ⟨(Nat.le_of_ble_eq_true rfl), (Nat.le_of_ble_eq_true rfl)⟩ rfl hl.1 rfl (Nat.le_of_ble_eq_true rfl) dX2_comesIn_4 ⟨(Nat.le_of_ble_eq_true rfl), (Nat.le_of_ble_eq_true rfl)⟩) (fun ad2 C1 H locs hs9 hI => ?_)
  replace hs := hs9
  refine lv_pop hx hb dX2_comesIn_7 rfl ?_
  refine lv_aload_n hx hb dX2_comesIn_8 rfl (lv_at hl 0 rfl) ?_
  obtain ⟨h5, hs⟩ := hs
  obtain ⟨fh5, h5⟩ := xcl_spec h5
  refine x_goi hA hI (x_runV (As := []) (rest := []) X hK hA hG hI h5 (q := (RX2, TX2, 12)) rfl rfl (xet_X2_time l a0 _ _ hs) iX2_time q1202 q1203 q1204 q96 ⟨(Nat.le_of_ble_eq_true rfl), (Nat.le_of_ble_eq_true rfl)⟩ rfl hl.1 rfl (Nat.le_of_ble_eq_true rfl) dX2_comesIn_9 ⟨(Nat.le_of_ble_eq_true rfl), (Nat.le_of_ble_eq_true rfl)⟩) (fun r5 C4 H locs hs9 hI => ?_)
  replace hs := hs9
  exact x_reti X hK hI hs (Nat.le_of_ble_eq_true rfl) (Nat.le_of_ble_eq_true rfl) dX2_comesIn_12
def x_X0_timeOf (a0 : Nat) (a1 : Int32) (C : XH) (K : Int32 → XH → Prop) : Prop := obd (xgr C (xis 0) a0 3) (fun ad1 => obd (xgr C (xis 0) a0 7) (fun ad2 => (xcl C ad1 = some 2 ∧ x_X2_of ad1 ad2 a1 C (fun ad4 C3 => (xcl C3 ad4 = some 2 ∧ x_X2_comesIn ad4 C3 (fun r7 C6 => K r7 C6))))))
theorem iX0_timeOf : xInf yX0_timeOf cX0_timeOf 2 (some .int) 1 := ⟨q1196, by decide +kernel⟩
set_option maxHeartbeats 4000000 in
theorem xet_X0_timeOf (l : Launch) (a0 : Nat) (a1 : Int32) (C : XH) (K : Int32 → XH → Prop) (hs : x_X0_timeOf a0 a1 C K) : xMeti l yX0_timeOf (ws_ yX0_timeOf cX0_timeOf 2 (some .int)) 8 182 0 0 C [.ref a0, .int a1] K := by
  intro D dT adK adV sz
  refine xEnter (own := RX0) (Qc := xQi D dT K) (by decide) rfl (by rfl) ?_
  intro p e s m args below meth c A ls X hnm hK hA hG hI hl
  have hx := X.1
  have hb := X.2.1
  have hts := X.2.2.2.2.1
  have hown := X.2.2.2.2.2.1
  have hl : lv_has ls 2 [(0, .ref a0), (1, .int a1)] := hl
  unfold x_X0_timeOf at hs
  refine lv_aload_n hx hb dX0_timeOf_0 rfl (lv_at hl 0 rfl) ?_
  obtain ⟨ad1, ead1, hs⟩ := hs
  refine x_get (v := .ref ad1) X hK hI 0 3 rfl in_X0 rfl q331 rfl (xgr_spec ead1) dX0_timeOf_1 ?_
  refine lv_aload_n hx hb dX0_timeOf_4 rfl (lv_at hl 0 rfl) ?_
  obtain ⟨ad2, ead2, hs⟩ := hs
  refine x_get (v := .ref ad2) X hK hI 0 7 rfl in_X0 rfl q335 rfl (xgr_spec ead2) dX0_timeOf_5 ?_
  refine lv_iload_n hx hb dX0_timeOf_8 rfl (lv_at hl 1 rfl) ?_
  obtain ⟨h4, hs⟩ := hs
  obtain ⟨fh4, h4⟩ := xcl_spec h4
  refine x_gor hA hI (x_runV (As := [.ref ad2, .int a1]) (rest := []) X hK hA hG hI h4 (q := (RX2, TX2, 12)) rfl rfl (xet_X2_of l ad1 ad2 a1 _ _ hs) iX2_of q1136 q1137 q1138 q96 ⟨(Nat.le_of_ble_eq_true rfl), (Nat.le_of_ble_eq_true rfl)⟩ rfl hl.1 rfl (Nat.le_of_ble_eq_true rfl) dX0_timeOf_9 ⟨(Nat.le_of_ble_eq_true rfl), (Nat.le_of_ble_eq_true rfl)⟩) (fun ad4 C3 H locs hs9 hI => ?_)
  replace hs := hs9
  obtain ⟨h7, hs⟩ := hs
  obtain ⟨fh7, h7⟩ := xcl_spec h7
  refine x_goi hA hI (x_runV (As := []) (rest := []) X hK hA hG hI h7 (q := (RX2, TX2, 12)) rfl rfl (xet_X2_comesIn l ad4 _ _ hs) iX2_comesIn q1197 q1198 q1199 q96 ⟨(Nat.le_of_ble_eq_true rfl), (Nat.le_of_ble_eq_true rfl)⟩ rfl hl.1 rfl (Nat.le_of_ble_eq_true rfl) dX0_timeOf_12 ⟨(Nat.le_of_ble_eq_true rfl), (Nat.le_of_ble_eq_true rfl)⟩) (fun r7 C6 H locs hs9 hI => ?_)
  replace hs := hs9
  exact x_reti X hK hI hs (Nat.le_of_ble_eq_true rfl) (Nat.le_of_ble_eq_true rfl) dX0_timeOf_15
def x_X0_comesIn (a0 : Nat) (a1 : Int32) (C : XH) (K : Int32 → XH → Prop) : Prop := (xcl C a0 = some 0 ∧ x_X0_mustChild a0 a1 C (fun C1 => (xcl C1 a0 = some 0 ∧ x_X0_timeOf a0 a1 C1 (fun r4 C3 => K r4 C3))) (fun ad6 C7 => (xcl C7 a0 = some 0 ∧ x_X0_refused a0 ad6 C7 (fun r9 C8 => K r9 C8))))
theorem iX0_comesIn : xInfW yX0_comesIn cX0_comesIn 3 (some .int) [(0, 10, 11, 21)] 1 := ⟨q1192, by decide +kernel⟩
set_option maxHeartbeats 4000000 in
theorem xet_X0_comesIn (l : Launch) (hl0 : l.stackTraces = false) (a0 : Nat) (a1 : Int32) (C : XH) (K : Int32 → XH → Prop) (hs : x_X0_comesIn a0 a1 C K) : xMetX l yX0_comesIn (wsW_ yX0_comesIn cX0_comesIn 3 (some .int) [(0, 10, 11, 21)]) 9 203 1 7 C [.ref a0, .int a1] (fun D dT A => xQi D dT K A) xE0 := by
  intro D dT adK adV sz
  refine xEnterW (own := RX0) (Qc := xQi D dT K) (XC := xXC D dT xE0) (by decide) rfl (by rfl) ?_
  intro p e s m args below meth c A ls X hnm hK hA hG hT hI hl
  have hx := X.1
  have hb := X.2.1
  have hts := X.2.2.2.2.1
  have hown := X.2.2.2.2.2.1
  have hl : lv_has ls 3 [(0, .ref a0), (1, .int a1)] := hl
  unfold x_X0_comesIn at hs
  refine lv_aload_n hx hb dX0_comesIn_0 rfl (lv_at hl 0 rfl) ?_
  refine lv_iload_n hx hb dX0_comesIn_1 rfl (lv_at hl 1 rfl) ?_
  obtain ⟨h1, hs⟩ := hs
  obtain ⟨fh1, h1⟩ := xcl_spec h1
  refine xT_gov hA hI (x_runVT (As := [.int a1]) (rest := []) X hK hA hG hI h1 (q := (RX0, TX0, 10)) rfl rfl (xet_X0_mustChild l hl0 a0 a1 _ _ _ hs) iX0_mustChild q649 q651 qs3 q94 ⟨(Nat.le_of_ble_eq_true rfl), (Nat.le_of_ble_eq_true rfl)⟩ rfl hl.1 rfl (Nat.le_of_ble_eq_true rfl) dX0_comesIn_2 ⟨(Nat.le_of_ble_eq_true rfl), (Nat.le_of_ble_eq_true rfl)⟩) (fun En ce ad6 C7 H locs hs9 hI hce hvm hcl => ?_) (fun C1 H locs hs9 hI => ?_)
  · obtain ⟨rfl, hs0⟩ := hs9
    replace hs := hs0
    refine x_catch (k := 0) (a1 := 0) (a2 := 10) (a3 := 11) (a4 := 21) X hG hT rfl (x_cov rfl) rfl (by decide) q363 (by decide) hce hvm hcl ?_
    refine lv_astore_n (lv' := [(2, .ref ad6), (0, .ref a0), (1, .int a1)]) hx hb dX0_comesIn_11 rfl hl (by decide) rfl (fun ls hl => ?_)
    refine lv_aload_n hx hb dX0_comesIn_12 rfl (lv_at hl 1 rfl) ?_
    refine lv_aload_n hx hb dX0_comesIn_13 rfl (lv_at hl 0 rfl) ?_
    obtain ⟨h9, hs⟩ := hs
    obtain ⟨fh9, h9⟩ := xcl_spec h9
    refine x_goi hA hI (x_runV (As := [.ref ad6]) (rest := []) X hK hA hG hI h9 (q := (RX0, TX0, 10)) rfl rfl (xet_X0_refused l a0 ad6 _ _ hs) iX0_refused q538 q540 qs2 q94 ⟨(Nat.le_of_ble_eq_true rfl), (Nat.le_of_ble_eq_true rfl)⟩ rfl hl.1 rfl (Nat.le_of_ble_eq_true rfl) dX0_comesIn_14 ⟨(Nat.le_of_ble_eq_true rfl), (Nat.le_of_ble_eq_true rfl)⟩) (fun r9 C8 H locs hs9 hI => ?_)
    replace hs := hs9
    exact vx_ret (x_reti X hK hI hs (Nat.le_of_ble_eq_true rfl) (Nat.le_of_ble_eq_true rfl) dX0_comesIn_17)
  · replace hs := hs9
    refine lv_aload_n hx hb dX0_comesIn_5 rfl (lv_at hl 0 rfl) ?_
    refine lv_iload_n hx hb dX0_comesIn_6 rfl (lv_at hl 1 rfl) ?_
    obtain ⟨h4, hs⟩ := hs
    obtain ⟨fh4, h4⟩ := xcl_spec h4
    refine x_goi hA hI (x_runV (As := [.int a1]) (rest := []) X hK hA hG hI h4 (q := (RX0, TX0, 10)) rfl rfl (xet_X0_timeOf l a0 a1 _ _ hs) iX0_timeOf q1193 q1195 qs23 q94 ⟨(Nat.le_of_ble_eq_true rfl), (Nat.le_of_ble_eq_true rfl)⟩ rfl hl.1 rfl (Nat.le_of_ble_eq_true rfl) dX0_comesIn_7 ⟨(Nat.le_of_ble_eq_true rfl), (Nat.le_of_ble_eq_true rfl)⟩) (fun r4 C3 H locs hs9 hI => ?_)
    replace hs := hs9
    exact vx_ret (x_reti X hK hI hs (Nat.le_of_ble_eq_true rfl) (Nat.le_of_ble_eq_true rfl) dX0_comesIn_10)
def x_X0_all (a0 : Nat) (C : XH) (K : Int32 → XH → Prop) : Prop := obd (xgr C (xis 0) a0 7) (fun ad1 => obd (xgi C (xis 4) ad1 0) (fun v2 => K ((1 <<< (v2 &&& 31)) - 1) C))
theorem iX0_all : xInf yX0_all cX0_all 1 (some .int) 0 := ⟨q1217, by decide +kernel⟩
set_option maxHeartbeats 4000000 in
theorem xet_X0_all (l : Launch) (a0 : Nat) (C : XH) (K : Int32 → XH → Prop) (hs : x_X0_all a0 C K) : xMeti l yX0_all (ws_ yX0_all cX0_all 1 (some .int)) 0 0 0 0 C [.ref a0] K := by
  intro D dT adK adV sz
  refine xEnter (own := RX0) (Qc := xQi D dT K) (by decide) rfl (by rfl) ?_
  intro p e s m args below meth c A ls X hnm hK hA hG hI hl
  have hx := X.1
  have hb := X.2.1
  have hts := X.2.2.2.2.1
  have hown := X.2.2.2.2.2.1
  have hl : lv_has ls 1 [(0, .ref a0)] := hl
  unfold x_X0_all at hs
  refine lv_iconst (v := 1) hx hb dX0_all_0 (by decide) ?_
  refine lv_aload_n hx hb dX0_all_1 rfl (lv_at hl 0 rfl) ?_
  obtain ⟨ad1, ead1, hs⟩ := hs
  refine x_get (v := .ref ad1) X hK hI 0 7 rfl in_X0 rfl q335 rfl (xgr_spec ead1) dX0_all_2 ?_
  obtain ⟨v2, ev2, hs⟩ := hs
  refine x_get (v := .int v2) X hK hI 4 0 rfl in_X4 rfl q252 rfl (xgi_spec ev2) dX0_all_5 ?_
  refine lv_ishl hx hb dX0_all_8 ?_
  refine lv_iconst (v := 1) hx hb dX0_all_9 (by decide) ?_
  refine lv_isub hx hb dX0_all_10 ?_
  exact x_reti X hK hI hs (Nat.le_of_ble_eq_true rfl) (Nat.le_of_ble_eq_true rfl) dX0_all_11
def x_X0_someChildren (a0 : Nat) (C : XH) (K : XH → Prop) (E : Nat → XH → Prop) : Prop := obd (xgr C (xis 0) a0 7) (fun ad1 => obd (xgi C (xis 4) ad1 0) (fun v2 => jn (fun (v3 : Int32) => x_X0_need v3 (-5) C (fun C4 => K C4) (fun ad5 C6 => E ad5 C6)) (fun k15_3 => (if v2 ≤ 0 then k15_3 0 else k15_3 1))))
theorem iX0_someChildren : xInf yX0_someChildren cX0_someChildren 1 none 0 := ⟨q1213, by decide +kernel⟩
set_option maxHeartbeats 4000000 in
theorem xet_X0_someChildren (l : Launch) (hl0 : l.stackTraces = false) (a0 : Nat) (C : XH) (K : XH → Prop) (E : Nat → XH → Prop) (hs : x_X0_someChildren a0 C K E) : xMetX l yX0_someChildren (ws_ yX0_someChildren cX0_someChildren 1 none) 5 114 1 7 C [.ref a0] (fun D dT A => xQv D dT K A) (xEK RX7 E) := by
  intro D dT adK adV sz
  refine xEnterT (own := RX0) (Qc := xQv D dT K) (XC := xXC D dT (xEK RX7 E)) (by decide) rfl (by rfl) ?_
  intro p e s m args below meth c A ls X hnm hK hA hG hT hI hl
  have hx := X.1
  have hb := X.2.1
  have hts := X.2.2.2.2.1
  have hown := X.2.2.2.2.2.1
  have hl : lv_has ls 1 [(0, .ref a0)] := hl
  unfold x_X0_someChildren at hs
  refine lv_aload_n hx hb dX0_someChildren_0 rfl (lv_at hl 0 rfl) ?_
  obtain ⟨ad1, ead1, hs⟩ := hs
  refine x_get (v := .ref ad1) X hK hI 0 7 rfl in_X0 rfl q335 rfl (xgr_spec ead1) dX0_someChildren_1 ?_
  obtain ⟨v2, ev2, hs⟩ := hs
  refine x_get (v := .int v2) X hK hI 4 0 rfl in_X4 rfl q252 rfl (xgi_spec ev2) dX0_someChildren_4 ?_
  obtain ⟨k15_3, hk15_3, hs⟩ := jn_ex hs
  have Ek15_3 : ∀ (v3 : Int32) (H : Heap) (locs : List Loc) (ls : Array Slot), k15_3 v3 → xI D dT A s.heap C H locs → lv_has ls 1 [] → W p l e (xRm 5 114 1 7) s m args below meth c H locs 0 0 (vx_MQ below (xQv D dT K A) (xXC D dT (xEK RX7 E) A) args s 1 7 A) (F0 m 15 ls [.int v3]) := by
    intro v3 H locs ls hs hI hl
    rw [hk15_3] at hs
    refine lv_bipush (v := (-5)) hx hb dX0_someChildren_15 (by decide) ?_
    refine xT_gov hA hI (x_runST (As := [.int v3, .int (-5)]) (rest := []) X hK hA hG hI (xet_X0_need l hl0 v3 (-5) _ _ _ hs) iX0_need q469 q470 q94 ⟨(Nat.le_of_ble_eq_true rfl), (Nat.le_of_ble_eq_true rfl)⟩ rfl hl.1 rfl (Nat.le_of_ble_eq_true rfl) dX0_someChildren_17 ⟨(Nat.le_of_ble_eq_true rfl), (Nat.le_of_ble_eq_true rfl)⟩) (fun En ce ad5 C6 H locs hs9 hI hce hvm hcl => ?_) (fun C4 H locs hs9 hI => ?_)
    · obtain ⟨rfl, hs0⟩ := hs9
      replace hs := hs0
      exact x_pass X hK hT rfl hI hce hvm hcl ⟨rfl, hs⟩ (Nat.le_of_ble_eq_true rfl) (Nat.le_of_ble_eq_true rfl)
    · replace hs := hs9
      exact vx_ret (x_retv X hK hI hs (Nat.le_of_ble_eq_true rfl) (Nat.le_of_ble_eq_true rfl) dX0_someChildren_20)
  refine lv_if_le (tgt := 14) hx hb dX0_someChildren_7 (by decide) (fun c6 => ?_) (fun c6 => ?_)
  · replace hs := ifp c6 hs
    refine lv_iconst (v := 0) hx hb dX0_someChildren_14 (by decide) ?_
    exact Ek15_3 _ _ _ _ hs hI (lv_sub hl [] rfl)
  · replace hs := ifn c6 hs
    refine lv_iconst (v := 1) hx hb dX0_someChildren_10 (by decide) ?_
    refine lv_goto (tgt := 15) hx hb dX0_someChildren_11 (by decide) ?_
    exact Ek15_3 _ _ _ _ hs hI (lv_sub hl [] rfl)
def x_X0_winnerOf_l7 (K : Int32 → XH → Prop) (a0 : Nat) (a1 : Int32) : Nat → Int32 → Int32 → Int32 → XH → Prop
  | 0, _, _, _, _ => False
  | n7_4 + 1, x1, x2, x3, C4 => obd (xgr C4 (xis 0) a0 7) (fun ad6 => obd (xgi C4 (xis 4) ad6 0) (fun v7 => (if v7 ≤ x3 then K x1 C4 else jn (fun (v8 : Int32) (C9 : XH) => jn (fun (x10 : Int32) (x11 : Int32) => x_X0_winnerOf_l7 K a0 a1 n7_4 x10 x11 (x3 + 1) C9) (fun k68_11 => (if ((a1 >>> (x3 &&& 31)) &&& 1) = 0 then k68_11 x1 x2 else jn (k68_11 x3 v8) (fun k62_11 => (if x1 = (-1) then k62_11 else (if x2 ≤ v8 then k68_11 x1 x2 else k62_11)))))) (fun k40_9 => (if ((a1 >>> (x3 &&& 31)) &&& 1) = 0 then k40_9 999 C4 else (xcl C4 a0 = some 0 ∧ x_X0_timeOf a0 x3 C4 (fun r16 C15 => k40_9 r16 C15)))))))
theorem x_X0_winnerOf_l7_s (K : Int32 → XH → Prop) (a0 : Nat) (a1 : Int32) (n7_4 : Nat) (x1 : Int32) (x2 : Int32) (x3 : Int32) (C4 : XH) : x_X0_winnerOf_l7 K a0 a1 (n7_4 + 1) x1 x2 x3 C4 = (obd (xgr C4 (xis 0) a0 7) (fun ad6 => obd (xgi C4 (xis 4) ad6 0) (fun v7 => (if v7 ≤ x3 then K x1 C4 else jn (fun (v8 : Int32) (C9 : XH) => jn (fun (x10 : Int32) (x11 : Int32) => x_X0_winnerOf_l7 K a0 a1 n7_4 x10 x11 (x3 + 1) C9) (fun k68_11 => (if ((a1 >>> (x3 &&& 31)) &&& 1) = 0 then k68_11 x1 x2 else jn (k68_11 x3 v8) (fun k62_11 => (if x1 = (-1) then k62_11 else (if x2 ≤ v8 then k68_11 x1 x2 else k62_11)))))) (fun k40_9 => (if ((a1 >>> (x3 &&& 31)) &&& 1) = 0 then k40_9 999 C4 else (xcl C4 a0 = some 0 ∧ x_X0_timeOf a0 x3 C4 (fun r16 C15 => k40_9 r16 C15)))))))) := rfl
def x_X0_winnerOf (a0 : Nat) (a1 : Int32) (C : XH) (K : Int32 → XH → Prop) : Prop := x_X0_winnerOf_l7 K a0 a1 NF (-1) 0 0 C
theorem iX0_winnerOf : xInf yX0_winnerOf cX0_winnerOf 6 (some .int) 1 := ⟨q1221, by decide +kernel⟩
set_option maxHeartbeats 4000000 in
theorem xet_X0_winnerOf (l : Launch) (a0 : Nat) (a1 : Int32) (C : XH) (K : Int32 → XH → Prop) (hs : x_X0_winnerOf a0 a1 C K) : xMeti l yX0_winnerOf (ws_ yX0_winnerOf cX0_winnerOf 6 (some .int)) 9 203 0 0 C [.ref a0, .int a1] K := by
  intro D dT adK adV sz
  refine xEnter (own := RX0) (Qc := xQi D dT K) (by decide) rfl (by rfl) ?_
  intro p e s m args below meth c A ls X hnm hK hA hG hI hl
  have hx := X.1
  have hb := X.2.1
  have hts := X.2.2.2.2.1
  have hown := X.2.2.2.2.2.1
  have hl : lv_has ls 6 [(0, .ref a0), (1, .int a1)] := hl
  unfold x_X0_winnerOf at hs
  refine lv_iconst (v := (-1)) hx hb dX0_winnerOf_0 (by decide) ?_
  refine lv_istore_n (lv' := [(2, .int (-1)), (0, .ref a0), (1, .int a1)]) hx hb dX0_winnerOf_1 rfl hl (by decide) rfl (fun ls hl => ?_)
  refine lv_iconst (v := 0) hx hb dX0_winnerOf_2 (by decide) ?_
  refine lv_istore_n (lv' := [(3, .int 0), (2, .int (-1)), (0, .ref a0), (1, .int a1)]) hx hb dX0_winnerOf_3 rfl hl (by decide) rfl (fun ls hl => ?_)
  refine lv_iconst (v := 0) hx hb dX0_winnerOf_4 (by decide) ?_
  refine lv_istore (lv' := [(4, .int 0), (3, .int 0), (2, .int (-1)), (0, .ref a0), (1, .int a1)]) hx hb dX0_winnerOf_5 hl (by decide) rfl (fun ls hl => ?_)
  have Lx_X0_winnerOf_l7 : ∀ (n7_4 : Nat) (x1 : Int32) (x2 : Int32) (x3 : Int32) (C4 : XH) (H : Heap) (locs : List Loc) (ls : Array Slot), x_X0_winnerOf_l7 K a0 a1 n7_4 x1 x2 x3 C4 → xI D dT A s.heap C4 H locs → lv_has ls 6 [(0, .ref a0), (1, .int a1), (2, .int x1), (3, .int x2), (4, .int x3)] → W p l e (xRm 9 203 0 0) s m args below meth c H locs 0 0 (MQ below (xQi D dT K A) args s 0 0 A) (F0 m 7 ls []) := by
    intro n7_4
    induction n7_4 with
    | zero =>
      intro x1 x2 x3 C4 H locs ls hs
      exact False.elim hs
    | succ n7_4 ihx_X0_winnerOf_l7 =>
      intro x1 x2 x3 C4 H locs ls hs hI hl
      rw [x_X0_winnerOf_l7_s] at hs
      refine lv_iload hx hb dX0_winnerOf_7 (lv_at hl 4 rfl) ?_
      refine lv_aload_n hx hb dX0_winnerOf_9 rfl (lv_at hl 0 rfl) ?_
      obtain ⟨ad6, ead6, hs⟩ := hs
      refine x_get (v := .ref ad6) X hK hI 0 7 rfl in_X0 rfl q335 rfl (xgr_spec ead6) dX0_winnerOf_10 ?_
      obtain ⟨v7, ev7, hs⟩ := hs
      refine x_get (v := .int v7) X hK hI 4 0 rfl in_X4 rfl q252 rfl (xgi_spec ev7) dX0_winnerOf_13 ?_
      refine lv_icmp_ge (tgt := 74) hx hb dX0_winnerOf_16 (by decide) (fun c18 => ?_) (fun c18 => ?_)
      · replace hs := ifp c18 hs
        refine lv_iload_n hx hb dX0_winnerOf_74 rfl (lv_at hl 2 rfl) ?_
        exact x_reti X hK hI hs (Nat.le_of_ble_eq_true rfl) (Nat.le_of_ble_eq_true rfl) dX0_winnerOf_75
      · replace hs := ifn c18 hs
        refine lv_iload_n hx hb dX0_winnerOf_19 rfl (lv_at hl 1 rfl) ?_
        refine lv_iload hx hb dX0_winnerOf_20 (lv_at hl 4 rfl) ?_
        refine lv_ishr hx hb dX0_winnerOf_22 ?_
        refine lv_iconst (v := 1) hx hb dX0_winnerOf_23 (by decide) ?_
        refine lv_iand hx hb dX0_winnerOf_24 ?_
        obtain ⟨k40_9, hk40_9, hs⟩ := jn_ex hs
        have Ek40_9 : ∀ (v8 : Int32) (C9 : XH) (H : Heap) (locs : List Loc) (ls : Array Slot), k40_9 v8 C9 → xI D dT A s.heap C9 H locs → lv_has ls 6 [(0, .ref a0), (1, .int a1), (2, .int x1), (3, .int x2), (4, .int x3)] → W p l e (xRm 9 203 0 0) s m args below meth c H locs 0 0 (MQ below (xQi D dT K A) args s 0 0 A) (F0 m 40 ls [.int v8]) := by
          intro v8 C9 H locs ls hs hI hl
          rw [hk40_9] at hs
          refine lv_istore (lv' := [(5, .int v8), (0, .ref a0), (1, .int a1), (2, .int x1), (3, .int x2), (4, .int x3)]) hx hb dX0_winnerOf_40 hl (by decide) rfl (fun ls hl => ?_)
          refine lv_iload_n hx hb dX0_winnerOf_42 rfl (lv_at hl 2 rfl) ?_
          refine lv_iload hx hb dX0_winnerOf_43 (lv_at hl 5 rfl) ?_
          refine lv_ishr hx hb dX0_winnerOf_45 ?_
          refine lv_iconst (v := 1) hx hb dX0_winnerOf_46 (by decide) ?_
          refine lv_iand hx hb dX0_winnerOf_47 ?_
          obtain ⟨k68_11, hk68_11, hs⟩ := jn_ex hs
          have Ek68_11 : ∀ (x10 : Int32) (x11 : Int32) (H : Heap) (locs : List Loc) (ls : Array Slot), k68_11 x10 x11 → xI D dT A s.heap C9 H locs → lv_has ls 6 [(0, .ref a0), (1, .int a1), (2, .int x10), (3, .int x11), (4, .int x3)] → W p l e (xRm 9 203 0 0) s m args below meth c H locs 0 0 (MQ below (xQi D dT K A) args s 0 0 A) (F0 m 68 ls []) := by
            intro x10 x11 H locs ls hs hI hl
            rw [hk68_11] at hs
            refine lv_iinc (v := (x3 + 1)) (lv' := [(4, .int (x3 + 1)), (0, .ref a0), (1, .int a1), (2, .int x10), (3, .int x11)]) hx hb dX0_winnerOf_68 hl (k := 4) rfl (congrArg (fun z => x3 + z) (show Int32.ofInt (1) = 1 by decide)) (by decide) rfl (fun ls hl => ?_)
            refine lv_goto (tgt := 7) hx hb dX0_winnerOf_71 (by decide) ?_
            exact ihx_X0_winnerOf_l7 _ _ _ _ _ _ _ hs hI (lv_sub hl [1, 2, 3, 4, 0] rfl)
          refine lv_if_eq (tgt := 68) hx hb dX0_winnerOf_48 (by decide) (fun c13 => ?_) (fun c13 => ?_)
          · replace hs := ifp c13 hs
            exact Ek68_11 _ _ _ _ _ hs hI (lv_sub hl [1, 2, 3, 4, 5] rfl)
          · replace hs := ifn c13 hs
            refine lv_iload_n hx hb dX0_winnerOf_51 rfl (lv_at hl 3 rfl) ?_
            refine lv_iconst (v := (-1)) hx hb dX0_winnerOf_52 (by decide) ?_
            obtain ⟨k62_11, hk62_11, hs⟩ := jn_ex hs
            have Ek62_11 : ∀ (H : Heap) (locs : List Loc) (ls : Array Slot), k62_11 → xI D dT A s.heap C9 H locs → lv_has ls 6 [(0, .ref a0), (1, .int a1), (4, .int x3), (5, .int v8)] → W p l e (xRm 9 203 0 0) s m args below meth c H locs 0 0 (MQ below (xQi D dT K A) args s 0 0 A) (F0 m 62 ls []) := by
              intro H locs ls hs hI hl
              rw [hk62_11] at hs
              refine lv_iload hx hb dX0_winnerOf_62 (lv_at hl 2 rfl) ?_
              refine lv_istore_n (lv' := [(2, .int x3), (0, .ref a0), (1, .int a1), (4, .int x3), (5, .int v8)]) hx hb dX0_winnerOf_64 rfl hl (by decide) rfl (fun ls hl => ?_)
              refine lv_iload hx hb dX0_winnerOf_65 (lv_at hl 4 rfl) ?_
              refine lv_istore_n (lv' := [(3, .int v8), (2, .int x3), (0, .ref a0), (1, .int a1), (4, .int x3), (5, .int v8)]) hx hb dX0_winnerOf_67 rfl hl (by decide) rfl (fun ls hl => ?_)
              exact Ek68_11 _ _ _ _ _ hs hI (lv_sub hl [2, 3, 1, 0, 4] rfl)
            refine lv_icmp_eq (tgt := 62) hx hb dX0_winnerOf_53 (by decide) (fun c12 => ?_) (fun c12 => ?_)
            · replace hs := ifp c12 hs
              exact Ek62_11 _ _ _ hs hI (lv_sub hl [1, 2, 5, 0] rfl)
            · replace hs := ifn c12 hs
              refine lv_iload hx hb dX0_winnerOf_56 (lv_at hl 0 rfl) ?_
              refine lv_iload_n hx hb dX0_winnerOf_58 rfl (lv_at hl 4 rfl) ?_
              refine lv_icmp_ge (tgt := 68) hx hb dX0_winnerOf_59 (by decide) (fun c11 => ?_) (fun c11 => ?_)
              · replace hs := ifp c11 hs
                exact Ek68_11 _ _ _ _ _ hs hI (lv_sub hl [1, 2, 3, 4, 5] rfl)
              · replace hs := ifn c11 hs
                exact Ek62_11 _ _ _ hs hI (lv_sub hl [1, 2, 5, 0] rfl)
        refine lv_if_eq (tgt := 37) hx hb dX0_winnerOf_25 (by decide) (fun c17 => ?_) (fun c17 => ?_)
        · replace hs := ifp c17 hs
          refine lv_sipush (v := 999) hx hb dX0_winnerOf_37 (by decide) ?_
          exact Ek40_9 _ _ _ _ _ hs hI hl
        · replace hs := ifn c17 hs
          refine lv_aload_n hx hb dX0_winnerOf_28 rfl (lv_at hl 0 rfl) ?_
          refine lv_iload hx hb dX0_winnerOf_29 (lv_at hl 4 rfl) ?_
          obtain ⟨h16, hs⟩ := hs
          obtain ⟨fh16, h16⟩ := xcl_spec h16
          refine x_goi hA hI (x_runV (As := [.int x3]) (rest := []) X hK hA hG hI h16 (q := (RX0, TX0, 10)) rfl rfl (xet_X0_timeOf l a0 x3 _ _ hs) iX0_timeOf q1193 q1195 qs23 q94 ⟨(Nat.le_of_ble_eq_true rfl), (Nat.le_of_ble_eq_true rfl)⟩ rfl hl.1 rfl (Nat.le_of_ble_eq_true rfl) dX0_winnerOf_31 ⟨(Nat.le_of_ble_eq_true rfl), (Nat.le_of_ble_eq_true rfl)⟩) (fun r16 C15 H locs hs9 hI => ?_)
          replace hs := hs9
          refine lv_goto (tgt := 40) hx hb dX0_winnerOf_34 (by decide) ?_
          exact Ek40_9 _ _ _ _ _ hs hI hl
  exact Lx_X0_winnerOf_l7 NF _ _ _ _ _ _ _ hs hI (lv_sub hl [3, 4, 2, 1, 0] rfl)
def x_X0_wins (a0 : Nat) (a1 : Int32) (C : XH) (K : Int32 → XH → Prop) : Prop := x_X0_in ((a1 : Int32).toInt64) 0 1 C (fun r2 C1 => x_X0_need r2 (-5) C1 (fun C3 => (xcl C3 a0 = some 0 ∧ x_X0_someChildren a0 C3 (fun C4 => (xcl C4 a0 = some 0 ∧ x_X0_all a0 C4 (fun r7 C6 => (xcl C6 a0 = some 0 ∧ x_X0_winnerOf a0 r7 C6 (fun r10 C9 => (xcl C9 a0 = some 0 ∧ x_X0_all a0 C9 (fun r13 C12 => (xcl C12 a0 = some 0 ∧ x_X0_winnerOf a0 (r13 &&& ((1 <<< (r10 &&& 31)) ^^^ (-1))) C12 (fun r16 C15 => (if a1 = 0 then K r10 C15 else (if r16 = (-1) then K 0 C15 else (xcl C15 a0 = some 0 ∧ x_X0_timeOf a0 r16 C15 (fun r19 C18 => (xcl C18 a0 = some 0 ∧ x_X0_timeOf a0 r10 C18 (fun r22 C21 => K (r19 - r22) C21))))))))))))))) (fun ad26 C27 => (xcl C27 a0 = some 0 ∧ x_X0_refused a0 ad26 C27 (fun r29 C28 => K r29 C28))))) (fun ad31 C32 => (xcl C32 a0 = some 0 ∧ x_X0_refused a0 ad31 C32 (fun r34 C33 => K r34 C33))))
theorem iX0_wins : xInfW yX0_wins cX0_wins 4 (some .int) [(0, 68, 69, 21)] 1 := ⟨q1209, by decide +kernel⟩
set_option maxHeartbeats 4000000 in
theorem xet_X0_wins (l : Launch) (hl0 : l.stackTraces = false) (a0 : Nat) (a1 : Int32) (C : XH) (K : Int32 → XH → Prop) (hs : x_X0_wins a0 a1 C K) : xMetX l yX0_wins (wsW_ yX0_wins cX0_wins 4 (some .int) [(0, 68, 69, 21)]) 10 228 2 14 C [.ref a0, .int a1] (fun D dT A => xQi D dT K A) xE0 := by
  intro D dT adK adV sz
  refine xEnterW (own := RX0) (Qc := xQi D dT K) (XC := xXC D dT xE0) (by decide) rfl (by rfl) ?_
  intro p e s m args below meth c A ls X hnm hK hA hG hT hI hl
  have hx := X.1
  have hb := X.2.1
  have hts := X.2.2.2.2.1
  have hown := X.2.2.2.2.2.1
  have hl : lv_has ls 4 [(0, .ref a0), (1, .int a1)] := hl
  unfold x_X0_wins at hs
  refine lv_iload_n hx hb dX0_wins_0 rfl (lv_at hl 1 rfl) ?_
  refine lv_i2l (v := ((a1 : Int32).toInt64)) hx hb dX0_wins_1 rfl ?_
  refine lv_lconst (v := 0) hx hb dX0_wins_2 (by decide) ?_
  refine lv_lconst (v := 1) hx hb dX0_wins_3 (by decide) ?_
  refine x_goz hA hI (x_runS (As := [.long ((a1 : Int32).toInt64), .long 0, .long 1]) (rest := []) X hK hA hG hI (xet_X0_in l ((a1 : Int32).toInt64) 0 1 _ _ hs) iX0_in q473 q474 q94 ⟨(Nat.le_of_ble_eq_true rfl), (Nat.le_of_ble_eq_true rfl)⟩ rfl hl.1 rfl (Nat.le_of_ble_eq_true rfl) dX0_wins_4 ⟨(Nat.le_of_ble_eq_true rfl), (Nat.le_of_ble_eq_true rfl)⟩) (fun r2 C1 H locs br2 hs9 hI => ?_)
  replace hs := hs9
  refine lv_bipush (v := (-5)) hx hb dX0_wins_7 (by decide) ?_
  refine xT_gov hA hI (x_runST (As := [.int r2, .int (-5)]) (rest := []) X hK hA hG hI (xet_X0_need l hl0 r2 (-5) _ _ _ hs) iX0_need q469 q470 q94 ⟨(Nat.le_of_ble_eq_true rfl), (Nat.le_of_ble_eq_true rfl)⟩ rfl hl.1 rfl (Nat.le_of_ble_eq_true rfl) dX0_wins_9 ⟨(Nat.le_of_ble_eq_true rfl), (Nat.le_of_ble_eq_true rfl)⟩) (fun En ce ad31 C32 H locs hs9 hI hce hvm hcl => ?_) (fun C3 H locs hs9 hI => ?_)
  · obtain ⟨rfl, hs0⟩ := hs9
    replace hs := hs0
    refine x_catch (k := 0) (a1 := 0) (a2 := 68) (a3 := 69) (a4 := 21) X hG hT rfl (x_cov rfl) rfl (by decide) q363 (by decide) hce hvm hcl ?_
    refine lv_astore_n (lv' := [(2, .ref ad31), (0, .ref a0), (1, .int a1)]) hx hb dX0_wins_69 rfl hl (by decide) rfl (fun ls hl => ?_)
    refine lv_aload_n hx hb dX0_wins_70 rfl (lv_at hl 1 rfl) ?_
    refine lv_aload_n hx hb dX0_wins_71 rfl (lv_at hl 0 rfl) ?_
    obtain ⟨h34, hs⟩ := hs
    obtain ⟨fh34, h34⟩ := xcl_spec h34
    refine x_goi hA hI (x_runV (As := [.ref ad31]) (rest := []) X hK hA hG hI h34 (q := (RX0, TX0, 10)) rfl rfl (xet_X0_refused l a0 ad31 _ _ hs) iX0_refused q538 q540 qs2 q94 ⟨(Nat.le_of_ble_eq_true rfl), (Nat.le_of_ble_eq_true rfl)⟩ rfl hl.1 rfl (Nat.le_of_ble_eq_true rfl) dX0_wins_72 ⟨(Nat.le_of_ble_eq_true rfl), (Nat.le_of_ble_eq_true rfl)⟩) (fun r34 C33 H locs hs9 hI => ?_)
    replace hs := hs9
    exact vx_ret (x_reti X hK hI hs (Nat.le_of_ble_eq_true rfl) (Nat.le_of_ble_eq_true rfl) dX0_wins_75)
  · replace hs := hs9
    refine lv_aload_n hx hb dX0_wins_12 rfl (lv_at hl 0 rfl) ?_
    obtain ⟨h4, hs⟩ := hs
    obtain ⟨fh4, h4⟩ := xcl_spec h4
    refine xT_gov hA hI (x_runVT (As := []) (rest := []) X hK hA hG hI h4 (q := (RX0, TX0, 10)) rfl rfl (xet_X0_someChildren l hl0 a0 _ _ _ hs) iX0_someChildren q1210 q1212 qs24 q94 ⟨(Nat.le_of_ble_eq_true rfl), (Nat.le_of_ble_eq_true rfl)⟩ rfl hl.1 rfl (Nat.le_of_ble_eq_true rfl) dX0_wins_13 ⟨(Nat.le_of_ble_eq_true rfl), (Nat.le_of_ble_eq_true rfl)⟩) (fun En ce ad26 C27 H locs hs9 hI hce hvm hcl => ?_) (fun C4 H locs hs9 hI => ?_)
    · obtain ⟨rfl, hs0⟩ := hs9
      replace hs := hs0
      refine x_catch (k := 0) (a1 := 0) (a2 := 68) (a3 := 69) (a4 := 21) X hG hT rfl (x_cov rfl) rfl (by decide) q363 (by decide) hce hvm hcl ?_
      refine lv_astore_n (lv' := [(2, .ref ad26), (0, .ref a0), (1, .int a1)]) hx hb dX0_wins_69 rfl hl (by decide) rfl (fun ls hl => ?_)
      refine lv_aload_n hx hb dX0_wins_70 rfl (lv_at hl 1 rfl) ?_
      refine lv_aload_n hx hb dX0_wins_71 rfl (lv_at hl 0 rfl) ?_
      obtain ⟨h29, hs⟩ := hs
      obtain ⟨fh29, h29⟩ := xcl_spec h29
      refine x_goi hA hI (x_runV (As := [.ref ad26]) (rest := []) X hK hA hG hI h29 (q := (RX0, TX0, 10)) rfl rfl (xet_X0_refused l a0 ad26 _ _ hs) iX0_refused q538 q540 qs2 q94 ⟨(Nat.le_of_ble_eq_true rfl), (Nat.le_of_ble_eq_true rfl)⟩ rfl hl.1 rfl (Nat.le_of_ble_eq_true rfl) dX0_wins_72 ⟨(Nat.le_of_ble_eq_true rfl), (Nat.le_of_ble_eq_true rfl)⟩) (fun r29 C28 H locs hs9 hI => ?_)
      replace hs := hs9
      exact vx_ret (x_reti X hK hI hs (Nat.le_of_ble_eq_true rfl) (Nat.le_of_ble_eq_true rfl) dX0_wins_75)
    · replace hs := hs9
      refine lv_aload_n hx hb dX0_wins_16 rfl (lv_at hl 0 rfl) ?_
      refine lv_aload_n hx hb dX0_wins_17 rfl (lv_at hl 0 rfl) ?_
      obtain ⟨h7, hs⟩ := hs
      obtain ⟨fh7, h7⟩ := xcl_spec h7
      refine x_goi hA hI (x_runV (As := []) (rest := [.ref a0]) X hK hA hG hI h7 (q := (RX0, TX0, 10)) rfl rfl (xet_X0_all l a0 _ _ hs) iX0_all q1214 q1216 qs25 q94 ⟨(Nat.le_of_ble_eq_true rfl), (Nat.le_of_ble_eq_true rfl)⟩ rfl hl.1 rfl (Nat.le_of_ble_eq_true rfl) dX0_wins_18 ⟨(Nat.le_of_ble_eq_true rfl), (Nat.le_of_ble_eq_true rfl)⟩) (fun r7 C6 H locs hs9 hI => ?_)
      replace hs := hs9
      obtain ⟨h10, hs⟩ := hs
      obtain ⟨fh10, h10⟩ := xcl_spec h10
      refine x_goi hA hI (x_runV (As := [.int r7]) (rest := []) X hK hA hG hI h10 (q := (RX0, TX0, 10)) rfl rfl (xet_X0_winnerOf l a0 r7 _ _ hs) iX0_winnerOf q1218 q1220 qs26 q94 ⟨(Nat.le_of_ble_eq_true rfl), (Nat.le_of_ble_eq_true rfl)⟩ rfl hl.1 rfl (Nat.le_of_ble_eq_true rfl) dX0_wins_21 ⟨(Nat.le_of_ble_eq_true rfl), (Nat.le_of_ble_eq_true rfl)⟩) (fun r10 C9 H locs hs9 hI => ?_)
      replace hs := hs9
      refine lv_istore_n (lv' := [(2, .int r10), (0, .ref a0), (1, .int a1)]) hx hb dX0_wins_24 rfl hl (by decide) rfl (fun ls hl => ?_)
      refine lv_aload_n hx hb dX0_wins_25 rfl (lv_at hl 1 rfl) ?_
      refine lv_aload_n hx hb dX0_wins_26 rfl (lv_at hl 1 rfl) ?_
      obtain ⟨h13, hs⟩ := hs
      obtain ⟨fh13, h13⟩ := xcl_spec h13
      refine x_goi hA hI (x_runV (As := []) (rest := [.ref a0]) X hK hA hG hI h13 (q := (RX0, TX0, 10)) rfl rfl (xet_X0_all l a0 _ _ hs) iX0_all q1214 q1216 qs25 q94 ⟨(Nat.le_of_ble_eq_true rfl), (Nat.le_of_ble_eq_true rfl)⟩ rfl hl.1 rfl (Nat.le_of_ble_eq_true rfl) dX0_wins_27 ⟨(Nat.le_of_ble_eq_true rfl), (Nat.le_of_ble_eq_true rfl)⟩) (fun r13 C12 H locs hs9 hI => ?_)
      replace hs := hs9
      refine lv_iconst (v := 1) hx hb dX0_wins_30 (by decide) ?_
      refine lv_iload_n hx hb dX0_wins_31 rfl (lv_at hl 0 rfl) ?_
      refine lv_ishl hx hb dX0_wins_32 ?_
      refine lv_iconst (v := (-1)) hx hb dX0_wins_33 (by decide) ?_
      refine lv_ixor hx hb dX0_wins_34 ?_
      refine lv_iand hx hb dX0_wins_35 ?_
      obtain ⟨h16, hs⟩ := hs
      obtain ⟨fh16, h16⟩ := xcl_spec h16
      refine x_goi hA hI (x_runV (As := [.int (r13 &&& ((1 <<< (r10 &&& 31)) ^^^ (-1)))]) (rest := []) X hK hA hG hI h16 (q := (RX0, TX0, 10)) rfl rfl (xet_X0_winnerOf l a0 (r13 &&& ((1 <<< (r10 &&& 31)) ^^^ (-1))) _ _ hs) iX0_winnerOf q1218 q1220 qs26 q94 ⟨(Nat.le_of_ble_eq_true rfl), (Nat.le_of_ble_eq_true rfl)⟩ rfl hl.1 rfl (Nat.le_of_ble_eq_true rfl) dX0_wins_36 ⟨(Nat.le_of_ble_eq_true rfl), (Nat.le_of_ble_eq_true rfl)⟩) (fun r16 C15 H locs hs9 hI => ?_)
      replace hs := hs9
      refine lv_istore_n (lv' := [(3, .int r16), (2, .int r10), (0, .ref a0), (1, .int a1)]) hx hb dX0_wins_39 rfl hl (by decide) rfl (fun ls hl => ?_)
      refine lv_iload_n hx hb dX0_wins_40 rfl (lv_at hl 3 rfl) ?_
      refine lv_if_ne (tgt := 48) hx hb dX0_wins_41 (by decide) (fun c24 => ?_) (fun c24 => ?_)
      · replace hs := ifn c24 hs
        refine lv_iload_n hx hb dX0_wins_48 rfl (lv_at hl 0 rfl) ?_
        refine lv_iconst (v := (-1)) hx hb dX0_wins_49 (by decide) ?_
        refine lv_icmp_ne (tgt := 57) hx hb dX0_wins_50 (by decide) (fun c23 => ?_) (fun c23 => ?_)
        · replace hs := ifn c23 hs
          refine lv_aload_n hx hb dX0_wins_57 rfl (lv_at hl 2 rfl) ?_
          refine lv_iload_n hx hb dX0_wins_58 rfl (lv_at hl 0 rfl) ?_
          obtain ⟨h19, hs⟩ := hs
          obtain ⟨fh19, h19⟩ := xcl_spec h19
          refine x_goi hA hI (x_runV (As := [.int r16]) (rest := []) X hK hA hG hI h19 (q := (RX0, TX0, 10)) rfl rfl (xet_X0_timeOf l a0 r16 _ _ hs) iX0_timeOf q1193 q1195 qs23 q94 ⟨(Nat.le_of_ble_eq_true rfl), (Nat.le_of_ble_eq_true rfl)⟩ rfl hl.1 rfl (Nat.le_of_ble_eq_true rfl) dX0_wins_59 ⟨(Nat.le_of_ble_eq_true rfl), (Nat.le_of_ble_eq_true rfl)⟩) (fun r19 C18 H locs hs9 hI => ?_)
          replace hs := hs9
          refine lv_aload_n hx hb dX0_wins_62 rfl (lv_at hl 2 rfl) ?_
          refine lv_iload_n hx hb dX0_wins_63 rfl (lv_at hl 1 rfl) ?_
          obtain ⟨h22, hs⟩ := hs
          obtain ⟨fh22, h22⟩ := xcl_spec h22
          refine x_goi hA hI (x_runV (As := [.int r10]) (rest := [.int r19]) X hK hA hG hI h22 (q := (RX0, TX0, 10)) rfl rfl (xet_X0_timeOf l a0 r10 _ _ hs) iX0_timeOf q1193 q1195 qs23 q94 ⟨(Nat.le_of_ble_eq_true rfl), (Nat.le_of_ble_eq_true rfl)⟩ rfl hl.1 rfl (Nat.le_of_ble_eq_true rfl) dX0_wins_64 ⟨(Nat.le_of_ble_eq_true rfl), (Nat.le_of_ble_eq_true rfl)⟩) (fun r22 C21 H locs hs9 hI => ?_)
          replace hs := hs9
          refine lv_isub hx hb dX0_wins_67 ?_
          exact vx_ret (x_reti X hK hI hs (Nat.le_of_ble_eq_true rfl) (Nat.le_of_ble_eq_true rfl) dX0_wins_68)
        · replace hs := ifp c23 hs
          refine lv_iconst (v := 0) hx hb dX0_wins_53 (by decide) ?_
          refine lv_goto (tgt := 68) hx hb dX0_wins_54 (by decide) ?_
          exact vx_ret (x_reti X hK hI hs (Nat.le_of_ble_eq_true rfl) (Nat.le_of_ble_eq_true rfl) dX0_wins_68)
      · replace hs := ifp c24 hs
        refine lv_iload_n hx hb dX0_wins_44 rfl (lv_at hl 1 rfl) ?_
        refine lv_goto (tgt := 68) hx hb dX0_wins_45 (by decide) ?_
        exact vx_ret (x_reti X hK hI hs (Nat.le_of_ble_eq_true rfl) (Nat.le_of_ble_eq_true rfl) dX0_wins_68)
def x_X0_timeAs (a0 : Nat) (a1 : Int32) (a2 : Int32) (C : XH) (K : Int32 → XH → Prop) : Prop := obd (xgr C (xis 0) a0 3) (fun ad1 => obd (xgr C (xis 0) a0 7) (fun ad2 => obd (xgr C (xis 0) a0 7) (fun ad3 => obd (xgr C (xis 4) ad3 6) (fun ad4 => obd (xar C 7 ad4 a1) (fun ad5 => obd (xgi C xisH ad5 1) (fun v6 => x_X0_hopperOfKind a2 a1 v6 C (fun ad8 C7 => obd (xgr C7 (xis 0) a0 7) (fun ad9 => obd (xgr C7 (xis 4) ad9 8) (fun ad10 => obd (xai C7 0 ad10 a1) (fun v11 => (xcl C7 ad1 = some 2 ∧ x_X2_ofKind ad1 ad2 ad8 a1 v11 C7 (fun ad13 C12 => (xcl C12 ad13 = some 2 ∧ x_X2_comesIn ad13 C12 (fun r16 C15 => K r16 C15))))))))))))))
theorem iX0_timeAs : xInf yX0_timeAs cX0_timeAs 3 (some .int) 2 := ⟨q1233, by decide +kernel⟩
set_option maxHeartbeats 4000000 in
theorem xet_X0_timeAs (l : Launch) (a0 : Nat) (a1 : Int32) (a2 : Int32) (C : XH) (K : Int32 → XH → Prop) (hs : x_X0_timeAs a0 a1 a2 C K) : xMeti l yX0_timeAs (ws_ yX0_timeAs cX0_timeAs 3 (some .int)) 7 160 1 2 C [.ref a0, .int a1, .int a2] K := by
  intro D dT adK adV sz
  refine xEnter (own := RX0) (Qc := xQi D dT K) (by decide) rfl (by rfl) ?_
  intro p e s m args below meth c A ls X hnm hK hA hG hI hl
  have hx := X.1
  have hb := X.2.1
  have hts := X.2.2.2.2.1
  have hown := X.2.2.2.2.2.1
  have hl : lv_has ls 3 [(0, .ref a0), (1, .int a1), (2, .int a2)] := hl
  unfold x_X0_timeAs at hs
  refine lv_aload_n hx hb dX0_timeAs_0 rfl (lv_at hl 0 rfl) ?_
  obtain ⟨ad1, ead1, hs⟩ := hs
  refine x_get (v := .ref ad1) X hK hI 0 3 rfl in_X0 rfl q331 rfl (xgr_spec ead1) dX0_timeAs_1 ?_
  refine lv_aload_n hx hb dX0_timeAs_4 rfl (lv_at hl 0 rfl) ?_
  obtain ⟨ad2, ead2, hs⟩ := hs
  refine x_get (v := .ref ad2) X hK hI 0 7 rfl in_X0 rfl q335 rfl (xgr_spec ead2) dX0_timeAs_5 ?_
  refine lv_iload_n hx hb dX0_timeAs_8 rfl (lv_at hl 2 rfl) ?_
  refine lv_iload_n hx hb dX0_timeAs_9 rfl (lv_at hl 1 rfl) ?_
  refine lv_aload_n hx hb dX0_timeAs_10 rfl (lv_at hl 0 rfl) ?_
  obtain ⟨ad3, ead3, hs⟩ := hs
  refine x_get (v := .ref ad3) X hK hI 0 7 rfl in_X0 rfl q335 rfl (xgr_spec ead3) dX0_timeAs_11 ?_
  obtain ⟨ad4, ead4, hs⟩ := hs
  refine x_get (v := .ref ad4) X hK hI 4 6 rfl in_X4 rfl q272 rfl (xgr_spec ead4) dX0_timeAs_14 ?_
  refine lv_iload_n hx hb dX0_timeAs_17 rfl (lv_at hl 1 rfl) ?_
  obtain ⟨ad5, ead5, hs⟩ := hs
  refine x_aald X hK hI 7 rfl rfl ead5 dX0_timeAs_18 ?_
  obtain ⟨v6, ev6, hs⟩ := hs
  refine x_getH (v := .int v6) X hK hI 1 (by decide) q811 (fun x hx => hx) (xgi_spec ev6) dX0_timeAs_19 ?_
  refine x_gor hA hI (x_runS (As := [.int a2, .int a1, .int v6]) (rest := [.ref ad2, .ref ad1]) X hK hA hG hI (xet_X0_hopperOfKind l a2 a1 v6 _ _ hs) iX0_hopperOfKind q1234 q781 q94 ⟨(Nat.le_of_ble_eq_true rfl), (Nat.le_of_ble_eq_true rfl)⟩ rfl hl.1 rfl (Nat.le_of_ble_eq_true rfl) dX0_timeAs_22 ⟨(Nat.le_of_ble_eq_true rfl), (Nat.le_of_ble_eq_true rfl)⟩) (fun ad8 C7 H locs hs9 hI => ?_)
  replace hs := hs9
  refine lv_iload_n hx hb dX0_timeAs_25 rfl (lv_at hl 1 rfl) ?_
  refine lv_aload_n hx hb dX0_timeAs_26 rfl (lv_at hl 0 rfl) ?_
  obtain ⟨ad9, ead9, hs⟩ := hs
  refine x_get (v := .ref ad9) X hK hI 0 7 rfl in_X0 rfl q335 rfl (xgr_spec ead9) dX0_timeAs_27 ?_
  obtain ⟨ad10, ead10, hs⟩ := hs
  refine x_get (v := .ref ad10) X hK hI 4 8 rfl in_X4 rfl q280 rfl (xgr_spec ead10) dX0_timeAs_30 ?_
  refine lv_iload_n hx hb dX0_timeAs_33 rfl (lv_at hl 1 rfl) ?_
  obtain ⟨v11, ev11, hs⟩ := hs
  refine x_iald X hK hI ev11 dX0_timeAs_34 ?_
  obtain ⟨h13, hs⟩ := hs
  obtain ⟨fh13, h13⟩ := xcl_spec h13
  refine x_gor hA hI (x_runV (As := [.ref ad2, .ref ad8, .int a1, .int v11]) (rest := []) X hK hA hG hI h13 (q := (RX2, TX2, 12)) rfl rfl (xet_X2_ofKind l ad1 ad2 ad8 a1 v11 _ _ hs) iX2_ofKind q1235 q1141 q1142 q96 ⟨(Nat.le_of_ble_eq_true rfl), (Nat.le_of_ble_eq_true rfl)⟩ rfl hl.1 rfl (Nat.le_of_ble_eq_true rfl) dX0_timeAs_35 ⟨(Nat.le_of_ble_eq_true rfl), (Nat.le_of_ble_eq_true rfl)⟩) (fun ad13 C12 H locs hs9 hI => ?_)
  replace hs := hs9
  obtain ⟨h16, hs⟩ := hs
  obtain ⟨fh16, h16⟩ := xcl_spec h16
  refine x_goi hA hI (x_runV (As := []) (rest := []) X hK hA hG hI h16 (q := (RX2, TX2, 12)) rfl rfl (xet_X2_comesIn l ad13 _ _ hs) iX2_comesIn q1197 q1198 q1199 q96 ⟨(Nat.le_of_ble_eq_true rfl), (Nat.le_of_ble_eq_true rfl)⟩ rfl hl.1 rfl (Nat.le_of_ble_eq_true rfl) dX0_timeAs_38 ⟨(Nat.le_of_ble_eq_true rfl), (Nat.le_of_ble_eq_true rfl)⟩) (fun r16 C15 H locs hs9 hI => ?_)
  replace hs := hs9
  exact x_reti X hK hI hs (Nat.le_of_ble_eq_true rfl) (Nat.le_of_ble_eq_true rfl) dX0_timeAs_41
def x_X0_bestKind_l4 (a0 : Nat) (a1 : Int32) (k37_2 : Int32 → XH → Prop) : Nat → Int32 → Int32 → XH → Prop
  | 0, _, _, _ => False
  | n4_6 + 1, x4, x5, C6 => (if 7 ≤ x5 then k37_2 x4 C6 else (xcl C6 a0 = some 0 ∧ x_X0_timeAs a0 a1 x5 C6 (fun r9 C8 => (xcl C8 a0 = some 0 ∧ x_X0_timeAs a0 a1 x4 C8 (fun r12 C11 => jn (fun (v14 : Int32) => x_X0_bestKind_l4 a0 a1 k37_2 n4_6 v14 (x5 + 1) C11) (fun k30_14 => (if r12 ≤ r9 then k30_14 x4 else k30_14 x5)))))))
theorem x_X0_bestKind_l4_s (a0 : Nat) (a1 : Int32) (k37_2 : Int32 → XH → Prop) (n4_6 : Nat) (x4 : Int32) (x5 : Int32) (C6 : XH) : x_X0_bestKind_l4 a0 a1 k37_2 (n4_6 + 1) x4 x5 C6 = ((if 7 ≤ x5 then k37_2 x4 C6 else (xcl C6 a0 = some 0 ∧ x_X0_timeAs a0 a1 x5 C6 (fun r9 C8 => (xcl C8 a0 = some 0 ∧ x_X0_timeAs a0 a1 x4 C8 (fun r12 C11 => jn (fun (v14 : Int32) => x_X0_bestKind_l4 a0 a1 k37_2 n4_6 v14 (x5 + 1) C11) (fun k30_14 => (if r12 ≤ r9 then k30_14 x4 else k30_14 x5)))))))) := rfl
def x_X0_bestKind (a0 : Nat) (a1 : Int32) (C : XH) (K : Int32 → XH → Prop) : Prop := jn (fun (x1 : Int32) (C2 : XH) => K x1 C2) (fun k37_2 => x_X0_bestKind_l4 a0 a1 k37_2 NF9 0 1 C)
theorem iX0_bestKind : xInf yX0_bestKind cX0_bestKind 4 (some .int) 1 := ⟨q1229, by decide +kernel⟩
set_option maxHeartbeats 4000000 in
theorem xet_X0_bestKind (l : Launch) (a0 : Nat) (a1 : Int32) (C : XH) (K : Int32 → XH → Prop) (hs : x_X0_bestKind a0 a1 C K) : xMeti l yX0_bestKind (ws_ yX0_bestKind cX0_bestKind 4 (some .int)) 8 182 20 40 C [.ref a0, .int a1] K := by
  intro D dT adK adV sz
  refine xEnter (own := RX0) (Qc := xQi D dT K) (by decide) rfl (by rfl) ?_
  intro p e s m args below meth c A ls X hnm hK hA hG hI hl
  have hx := X.1
  have hb := X.2.1
  have hts := X.2.2.2.2.1
  have hown := X.2.2.2.2.2.1
  have hl : lv_has ls 4 [(0, .ref a0), (1, .int a1)] := hl
  unfold x_X0_bestKind at hs
  refine lv_iconst (v := 0) hx hb dX0_bestKind_0 (by decide) ?_
  refine lv_istore_n (lv' := [(2, .int 0), (0, .ref a0), (1, .int a1)]) hx hb dX0_bestKind_1 rfl hl (by decide) rfl (fun ls hl => ?_)
  refine lv_iconst (v := 1) hx hb dX0_bestKind_2 (by decide) ?_
  refine lv_istore_n (lv' := [(3, .int 1), (2, .int 0), (0, .ref a0), (1, .int a1)]) hx hb dX0_bestKind_3 rfl hl (by decide) rfl (fun ls hl => ?_)
  obtain ⟨k37_2, hk37_2, hs⟩ := jn_ex hs
  have Ek37_2 : ∀ (x1 : Int32) (C2 : XH) (H : Heap) (locs : List Loc) (ls : Array Slot), k37_2 x1 C2 → xI D dT A s.heap C2 H locs → lv_has ls 4 [(2, .int x1)] → W p l e (xRm 8 182 20 40) s m args below meth c H locs 20 40 (MQ below (xQi D dT K A) args s 20 40 A) (F0 m 37 ls []) := by
    intro x1 C2 H locs ls hs hI hl
    rw [hk37_2] at hs
    refine lv_iload_n hx hb dX0_bestKind_37 rfl (lv_at hl 0 rfl) ?_
    exact x_reti X hK hI hs (Nat.le_of_ble_eq_true rfl) (Nat.le_of_ble_eq_true rfl) dX0_bestKind_38
  have Lx_X0_bestKind_l4 : ∀ (n4_6 : Nat) (ce4 sl4 : Nat), ce4 + (n4_6 + 1) * 2 ≤ 20 → sl4 + (n4_6 + 1) * 4 ≤ 40 → ∀ (x4 : Int32) (x5 : Int32) (C6 : XH) (H : Heap) (locs : List Loc) (ls : Array Slot), x_X0_bestKind_l4 a0 a1 k37_2 n4_6 x4 x5 C6 → xI D dT A s.heap C6 H locs → lv_has ls 4 [(0, .ref a0), (1, .int a1), (2, .int x4), (3, .int x5)] → W p l e (xRm 8 182 20 40) s m args below meth c H locs ce4 sl4 (MQ below (xQi D dT K A) args s 20 40 A) (F0 m 4 ls []) := by
    intro n4_6
    induction n4_6 with
    | zero =>
      intro ce4 sl4 hce4 hsl4 x4 x5 C6 H locs ls hs
      exact False.elim hs
    | succ n4_6 ihx_X0_bestKind_l4 =>
      intro ce4 sl4 hce4 hsl4 x4 x5 C6 H locs ls hs hI hl
      rw [x_X0_bestKind_l4_s] at hs
      refine lv_iload_n hx hb dX0_bestKind_4 rfl (lv_at hl 3 rfl) ?_
      refine lv_bipush (v := 7) hx hb dX0_bestKind_5 (by decide) ?_
      refine lv_icmp_ge (tgt := 37) hx hb dX0_bestKind_7 (by decide) (fun c15 => ?_) (fun c15 => ?_)
      · replace hs := ifp c15 hs
        exact W.widen (show ce4 ≤ 20 by omega) (show sl4 ≤ 40 by omega) (Ek37_2 _ _ _ _ _ hs hI (lv_sub hl [2] rfl))
      · replace hs := ifn c15 hs
        refine lv_aload_n hx hb dX0_bestKind_10 rfl (lv_at hl 0 rfl) ?_
        refine lv_iload_n hx hb dX0_bestKind_11 rfl (lv_at hl 1 rfl) ?_
        refine lv_iload_n hx hb dX0_bestKind_12 rfl (lv_at hl 3 rfl) ?_
        obtain ⟨h9, hs⟩ := hs
        obtain ⟨fh9, h9⟩ := xcl_spec h9
        refine x_goi hA hI (x_runV (As := [.int a1, .int x5]) (rest := []) X hK hA hG hI h9 (q := (RX0, TX0, 10)) rfl rfl (xet_X0_timeAs l a0 a1 x5 _ _ hs) iX0_timeAs q1230 q1232 qs28 q94 ⟨(Nat.le_of_ble_eq_true rfl), (Nat.le_of_ble_eq_true rfl)⟩ rfl hl.1 rfl (Nat.le_of_ble_eq_true rfl) dX0_bestKind_13 ⟨(show (ce4 + 1) ≤ 20 by omega), (show (sl4 + 2) ≤ 40 by omega)⟩) (fun r9 C8 H locs hs9 hI => ?_)
        replace hs := hs9
        refine lv_aload_n hx hb dX0_bestKind_16 rfl (lv_at hl 0 rfl) ?_
        refine lv_iload_n hx hb dX0_bestKind_17 rfl (lv_at hl 1 rfl) ?_
        refine lv_iload_n hx hb dX0_bestKind_18 rfl (lv_at hl 2 rfl) ?_
        obtain ⟨h12, hs⟩ := hs
        obtain ⟨fh12, h12⟩ := xcl_spec h12
        refine x_goi hA hI (x_runV (As := [.int a1, .int x4]) (rest := [.int r9]) X hK hA hG hI h12 (q := (RX0, TX0, 10)) rfl rfl (xet_X0_timeAs l a0 a1 x4 _ _ hs) iX0_timeAs q1230 q1232 qs28 q94 ⟨(Nat.le_of_ble_eq_true rfl), (Nat.le_of_ble_eq_true rfl)⟩ rfl hl.1 rfl (Nat.le_of_ble_eq_true rfl) dX0_bestKind_19 ⟨(show (ce4 + 2) ≤ 20 by omega), (show (sl4 + 4) ≤ 40 by omega)⟩) (fun r12 C11 H locs hs9 hI => ?_)
        replace hs := hs9
        obtain ⟨k30_14, hk30_14, hs⟩ := jn_ex hs
        have Ek30_14 : ∀ (v14 : Int32) (H : Heap) (locs : List Loc) (ls : Array Slot), k30_14 v14 → xI D dT A s.heap C11 H locs → lv_has ls 4 [(0, .ref a0), (1, .int a1), (3, .int x5)] → W p l e (xRm 8 182 20 40) s m args below meth c H locs (ce4 + 2) (sl4 + 4) (MQ below (xQi D dT K A) args s 20 40 A) (F0 m 30 ls [.int v14]) := by
          intro v14 H locs ls hs hI hl
          rw [hk30_14] at hs
          refine lv_istore_n (lv' := [(2, .int v14), (0, .ref a0), (1, .int a1), (3, .int x5)]) hx hb dX0_bestKind_30 rfl hl (by decide) rfl (fun ls hl => ?_)
          refine lv_iinc (v := (x5 + 1)) (lv' := [(3, .int (x5 + 1)), (2, .int v14), (0, .ref a0), (1, .int a1)]) hx hb dX0_bestKind_31 hl (k := 3) rfl (congrArg (fun z => x5 + z) (show Int32.ofInt (1) = 1 by decide)) (by decide) rfl (fun ls hl => ?_)
          refine lv_goto (tgt := 4) hx hb dX0_bestKind_34 (by decide) ?_
          exact ihx_X0_bestKind_l4 (ce4 + 2) (sl4 + 4) (by omega) (by omega) _ _ _ _ _ _ hs hI (lv_sub hl [2, 3, 1, 0] rfl)
        refine lv_icmp_ge (tgt := 29) hx hb dX0_bestKind_22 (by decide) (fun c14 => ?_) (fun c14 => ?_)
        · replace hs := ifp c14 hs
          refine lv_iload_n hx hb dX0_bestKind_29 rfl (lv_at hl 2 rfl) ?_
          exact Ek30_14 _ _ _ _ hs hI (lv_sub hl [0, 1, 3] rfl)
        · replace hs := ifn c14 hs
          refine lv_iload_n hx hb dX0_bestKind_25 rfl (lv_at hl 3 rfl) ?_
          refine lv_goto (tgt := 30) hx hb dX0_bestKind_26 (by decide) ?_
          exact Ek30_14 _ _ _ _ hs hI (lv_sub hl [0, 1, 3] rfl)
  have hNF := NF9_eq
  exact Lx_X0_bestKind_l4 NF9 0 0 (by omega) (by omega) _ _ _ _ _ _ hs hI (lv_sub hl [2, 3, 1, 0] rfl)
