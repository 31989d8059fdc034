set_option maxRecDepth 100000
def x_X0_pair_l53 (a0 : Nat) (x6 : Int32) (k121_13 : Int32 → Int32 → XH → Prop) : Nat → Int32 → Int32 → Int32 → XH → Prop
  | 0, _, _, _, _ => False
  | n53_18 + 1, x15, x16, x17, C18 => obd (xgr C18 (xis 0) a0 7) (fun ad20 => obd (xgi C18 (xis 4) ad20 0) (fun v21 => (if v21 ≤ x17 then k121_13 x15 x16 C18 else obd (xgr C18 (xis 0) a0 3) (fun ad22 => obd (xgr C18 (xis 0) a0 7) (fun ad23 => obd (xgr C18 (xis 0) a0 7) (fun ad24 => obd (xgr C18 (xis 4) ad24 8) (fun ad25 => obd (xai C18 0 ad25 x6) (fun v26 => (xcl C18 ad22 = some 2 ∧ x_X2_ofTwo ad22 ad23 x6 x17 v26 C18 (fun ad28 C27 => (xcl C27 ad28 = some 2 ∧ x_X2_comesIn ad28 C27 (fun r31 C30 => jn (x_X0_pair_l53 a0 x6 k121_13 n53_18 ((100 * x6) + x17) r31 (x17 + 1) C30) (fun k104_32 => jn (fun (x33 : Int32) (x34 : Int32) => x_X0_pair_l53 a0 x6 k121_13 n53_18 x33 x34 (x17 + 1) C30) (fun k115_34 => (if x15 = (-1) then k104_32 else (if x16 ≤ r31 then k115_34 x15 x16 else k104_32))))))))))))))))
theorem x_X0_pair_l53_s (a0 : Nat) (x6 : Int32) (k121_13 : Int32 → Int32 → XH → Prop) (n53_18 : Nat) (x15 : Int32) (x16 : Int32) (x17 : Int32) (C18 : XH) : x_X0_pair_l53 a0 x6 k121_13 (n53_18 + 1) x15 x16 x17 C18 = (obd (xgr C18 (xis 0) a0 7) (fun ad20 => obd (xgi C18 (xis 4) ad20 0) (fun v21 => (if v21 ≤ x17 then k121_13 x15 x16 C18 else obd (xgr C18 (xis 0) a0 3) (fun ad22 => obd (xgr C18 (xis 0) a0 7) (fun ad23 => obd (xgr C18 (xis 0) a0 7) (fun ad24 => obd (xgr C18 (xis 4) ad24 8) (fun ad25 => obd (xai C18 0 ad25 x6) (fun v26 => (xcl C18 ad22 = some 2 ∧ x_X2_ofTwo ad22 ad23 x6 x17 v26 C18 (fun ad28 C27 => (xcl C27 ad28 = some 2 ∧ x_X2_comesIn ad28 C27 (fun r31 C30 => jn (x_X0_pair_l53 a0 x6 k121_13 n53_18 ((100 * x6) + x17) r31 (x17 + 1) C30) (fun k104_32 => jn (fun (x33 : Int32) (x34 : Int32) => x_X0_pair_l53 a0 x6 k121_13 n53_18 x33 x34 (x17 + 1) C30) (fun k115_34 => (if x15 = (-1) then k104_32 else (if x16 ≤ r31 then k115_34 x15 x16 else k104_32))))))))))))))))) := rfl
def x_X0_pair_l37 (K : Int32 → XH → Prop) (a0 : Nat) : Nat → Int32 → Int32 → Int32 → XH → Prop
  | 0, _, _, _, _ => False
  | n37_7 + 1, x4, x5, x6, C7 => obd (xgr C7 (xis 0) a0 7) (fun ad9 => obd (xgi C7 (xis 4) ad9 0) (fun v10 => (if v10 ≤ x6 then K x4 C7 else jn (fun (x11 : Int32) (x12 : Int32) (C13 : XH) => x_X0_pair_l37 K a0 n37_7 x11 x12 (x6 + 1) C13) (fun k121_13 => x_X0_pair_l53 a0 x6 k121_13 NF x4 x5 (x6 + 1) C7))))
theorem x_X0_pair_l37_s (K : Int32 → XH → Prop) (a0 : Nat) (n37_7 : Nat) (x4 : Int32) (x5 : Int32) (x6 : Int32) (C7 : XH) : x_X0_pair_l37 K a0 (n37_7 + 1) x4 x5 x6 C7 = (obd (xgr C7 (xis 0) a0 7) (fun ad9 => obd (xgi C7 (xis 4) ad9 0) (fun v10 => (if v10 ≤ x6 then K x4 C7 else jn (fun (x11 : Int32) (x12 : Int32) (C13 : XH) => x_X0_pair_l37 K a0 n37_7 x11 x12 (x6 + 1) C13) (fun k121_13 => x_X0_pair_l53 a0 x6 k121_13 NF x4 x5 (x6 + 1) C7))))) := rfl
def x_X0_pair_l53b (a0 : Nat) (x48 : Int32) (k121_55 : Int32 → Int32 → XH → Prop) : Nat → Int32 → Int32 → Int32 → XH → Prop
  | 0, _, _, _, _ => False
  | n53_60 + 1, x57, x58, x59, C60 => obd (xgr C60 (xis 0) a0 7) (fun ad62 => obd (xgi C60 (xis 4) ad62 0) (fun v63 => (if v63 ≤ x59 then k121_55 x57 x58 C60 else obd (xgr C60 (xis 0) a0 3) (fun ad64 => obd (xgr C60 (xis 0) a0 7) (fun ad65 => obd (xgr C60 (xis 0) a0 7) (fun ad66 => obd (xgr C60 (xis 4) ad66 8) (fun ad67 => obd (xai C60 0 ad67 x48) (fun v68 => (xcl C60 ad64 = some 2 ∧ x_X2_ofTwo ad64 ad65 x48 x59 v68 C60 (fun ad70 C69 => (xcl C69 ad70 = some 2 ∧ x_X2_comesIn ad70 C69 (fun r73 C72 => jn (x_X0_pair_l53b a0 x48 k121_55 n53_60 ((100 * x48) + x59) r73 (x59 + 1) C72) (fun k104_74 => jn (fun (x75 : Int32) (x76 : Int32) => x_X0_pair_l53b a0 x48 k121_55 n53_60 x75 x76 (x59 + 1) C72) (fun k115_76 => (if x57 = (-1) then k104_74 else (if x58 ≤ r73 then k115_76 x57 x58 else k104_74))))))))))))))))
theorem x_X0_pair_l53b_s (a0 : Nat) (x48 : Int32) (k121_55 : Int32 → Int32 → XH → Prop) (n53_60 : Nat) (x57 : Int32) (x58 : Int32) (x59 : Int32) (C60 : XH) : x_X0_pair_l53b a0 x48 k121_55 (n53_60 + 1) x57 x58 x59 C60 = (obd (xgr C60 (xis 0) a0 7) (fun ad62 => obd (xgi C60 (xis 4) ad62 0) (fun v63 => (if v63 ≤ x59 then k121_55 x57 x58 C60 else obd (xgr C60 (xis 0) a0 3) (fun ad64 => obd (xgr C60 (xis 0) a0 7) (fun ad65 => obd (xgr C60 (xis 0) a0 7) (fun ad66 => obd (xgr C60 (xis 4) ad66 8) (fun ad67 => obd (xai C60 0 ad67 x48) (fun v68 => (xcl C60 ad64 = some 2 ∧ x_X2_ofTwo ad64 ad65 x48 x59 v68 C60 (fun ad70 C69 => (xcl C69 ad70 = some 2 ∧ x_X2_comesIn ad70 C69 (fun r73 C72 => jn (x_X0_pair_l53b a0 x48 k121_55 n53_60 ((100 * x48) + x59) r73 (x59 + 1) C72) (fun k104_74 => jn (fun (x75 : Int32) (x76 : Int32) => x_X0_pair_l53b a0 x48 k121_55 n53_60 x75 x76 (x59 + 1) C72) (fun k115_76 => (if x57 = (-1) then k104_74 else (if x58 ≤ r73 then k115_76 x57 x58 else k104_74))))))))))))))))) := rfl
def x_X0_pair_l37b (K : Int32 → XH → Prop) (a0 : Nat) : Nat → Int32 → Int32 → Int32 → XH → Prop
  | 0, _, _, _, _ => False
  | n37_49 + 1, x46, x47, x48, C49 => obd (xgr C49 (xis 0) a0 7) (fun ad51 => obd (xgi C49 (xis 4) ad51 0) (fun v52 => (if v52 ≤ x48 then K x46 C49 else jn (fun (x53 : Int32) (x54 : Int32) (C55 : XH) => x_X0_pair_l37b K a0 n37_49 x53 x54 (x48 + 1) C55) (fun k121_55 => x_X0_pair_l53b a0 x48 k121_55 NF x46 x47 (x48 + 1) C49))))
theorem x_X0_pair_l37b_s (K : Int32 → XH → Prop) (a0 : Nat) (n37_49 : Nat) (x46 : Int32) (x47 : Int32) (x48 : Int32) (C49 : XH) : x_X0_pair_l37b K a0 (n37_49 + 1) x46 x47 x48 C49 = (obd (xgr C49 (xis 0) a0 7) (fun ad51 => obd (xgi C49 (xis 4) ad51 0) (fun v52 => (if v52 ≤ x48 then K x46 C49 else jn (fun (x53 : Int32) (x54 : Int32) (C55 : XH) => x_X0_pair_l37b K a0 n37_49 x53 x54 (x48 + 1) C55) (fun k121_55 => x_X0_pair_l53b a0 x48 k121_55 NF x46 x47 (x48 + 1) C49))))) := rfl
def x_X0_pair (a0 : Nat) (C : XH) (K : Int32 → XH → Prop) : Prop := obd (xgr C (xis 0) a0 7) (fun ad1 => obd (xgi C (xis 4) ad1 0) (fun v2 => jn (x_X0_need 0 (-5) C (fun C3 => x_X0_pair_l37 K a0 NF (-1) 0 0 C3) (fun ad39 C40 => (xcl C40 a0 = some 0 ∧ x_X0_refused a0 ad39 C40 (fun r42 C41 => K r42 C41)))) (fun k25_2 => jn (fun (v44 : Int32) => x_X0_need v44 (-5) C (fun C45 => x_X0_pair_l37b K a0 NF (-1) 0 0 C45) (fun ad81 C82 => (xcl C82 a0 = some 0 ∧ x_X0_refused a0 ad81 C82 (fun r84 C83 => K r84 C83)))) (fun k26_44 => (if v2 ≤ 1 then k25_2 else obd (xgr C (xis 0) a0 7) (fun ad86 => obd (xgi C (xis 4) ad86 1) (fun v87 => (if v87 ≤ 0 then k25_2 else k26_44 1))))))))
theorem iX0_pair : xInfW yX0_pair cX0_pair 6 (some .int) [(0, 128, 129, 21)] 0 := ⟨q1284, by decide +kernel⟩
set_option maxHeartbeats 4000000 in
theorem xet_X0_pair (l : Launch) (hl0 : l.stackTraces = false) (a0 : Nat) (C : XH) (K : Int32 → XH → Prop) (hs : x_X0_pair a0 C K) : xMetX l yX0_pair (wsW_ yX0_pair cX0_pair 6 (some .int) [(0, 128, 129, 21)]) 7 162 1 7 C [.ref a0] (fun D dT A => xQi D dT K A) xE0 := by
  intro D dT adK adV sz
  refine xEnterW (own := RX0) (Qc := xQi D dT K) (XC := xXC D dT xE0) (by decide) rfl (by rfl) ?_
  intro p e s m args below meth c A ls X hnm hK hA hG hT hI hl
  have hx := X.1
  have hb := X.2.1
  have hts := X.2.2.2.2.1
  have hown := X.2.2.2.2.2.1
  have hl : lv_has ls 6 [(0, .ref a0)] := hl
  unfold x_X0_pair at hs
  refine lv_aload_n hx hb dX0_pair_0 rfl (lv_at hl 0 rfl) ?_
  obtain ⟨ad1, ead1, hs⟩ := hs
  refine x_get (v := .ref ad1) X hK hI 0 7 rfl in_X0 rfl q335 rfl (xgr_spec ead1) dX0_pair_1 ?_
  obtain ⟨v2, ev2, hs⟩ := hs
  refine x_get (v := .int v2) X hK hI 4 0 rfl in_X4 rfl q252 rfl (xgi_spec ev2) dX0_pair_4 ?_
  refine lv_iconst (v := 1) hx hb dX0_pair_7 (by decide) ?_
  obtain ⟨k25_2, hk25_2, hs⟩ := jn_ex hs
  have Ek25_2 : ∀ (H : Heap) (locs : List Loc) (ls : Array Slot), k25_2 → xI D dT A s.heap C H locs → lv_has ls 6 [(0, .ref a0)] → W p l e (xRm 7 162 1 7) s m args below meth c H locs 0 0 (vx_MQ below (xQi D dT K A) (xXC D dT xE0 A) args s 1 7 A) (F0 m 25 ls []) := by
    intro H locs ls hs hI hl
    rw [hk25_2] at hs
    refine lv_iconst (v := 0) hx hb dX0_pair_25 (by decide) ?_
    refine lv_bipush (v := (-5)) hx hb dX0_pair_26 (by decide) ?_
    refine xT_gov hA hI (x_runST (As := [.int 0, .int (-5)]) (rest := []) X hK hA hG hI (xet_X0_need l hl0 0 (-5) _ _ _ hs) iX0_need q469 q470 q94 ⟨(Nat.le_of_ble_eq_true rfl), (Nat.le_of_ble_eq_true rfl)⟩ rfl hl.1 rfl (Nat.le_of_ble_eq_true rfl) dX0_pair_28 ⟨(Nat.le_of_ble_eq_true rfl), (Nat.le_of_ble_eq_true rfl)⟩) (fun En ce ad39 C40 H locs hs9 hI hce hvm hcl => ?_) (fun C3 H locs hs9 hI => ?_)
    · obtain ⟨rfl, hs0⟩ := hs9
      replace hs := hs0
      refine x_catch (k := 0) (a1 := 0) (a2 := 128) (a3 := 129) (a4 := 21) X hG hT rfl (x_cov rfl) rfl (by decide) q363 (by decide) hce hvm hcl ?_
      refine lv_astore_n (lv' := [(1, .ref ad39), (0, .ref a0)]) hx hb dX0_pair_129 rfl hl (by decide) rfl (fun ls hl => ?_)
      refine lv_aload_n hx hb dX0_pair_130 rfl (lv_at hl 1 rfl) ?_
      refine lv_aload_n hx hb dX0_pair_131 rfl (lv_at hl 0 rfl) ?_
      obtain ⟨h42, hs⟩ := hs
      obtain ⟨fh42, h42⟩ := xcl_spec h42
      refine x_goi hA hI (x_runV (As := [.ref ad39]) (rest := []) X hK hA hG hI h42 (q := (RX0, TX0, 10)) rfl rfl (xet_X0_refused l a0 ad39 _ _ hs) iX0_refused q538 q540 qs2 q94 ⟨(Nat.le_of_ble_eq_true rfl), (Nat.le_of_ble_eq_true rfl)⟩ rfl hl.1 rfl (Nat.le_of_ble_eq_true rfl) dX0_pair_132 ⟨(Nat.le_of_ble_eq_true rfl), (Nat.le_of_ble_eq_true rfl)⟩) (fun r42 C41 H locs hs9 hI => ?_)
      replace hs := hs9
      exact vx_ret (x_reti X hK hI hs (Nat.le_of_ble_eq_true rfl) (Nat.le_of_ble_eq_true rfl) dX0_pair_135)
    · replace hs := hs9
      refine lv_iconst (v := (-1)) hx hb dX0_pair_31 (by decide) ?_
      refine lv_istore_n (lv' := [(1, .int (-1)), (0, .ref a0)]) hx hb dX0_pair_32 rfl hl (by decide) rfl (fun ls hl => ?_)
      refine lv_iconst (v := 0) hx hb dX0_pair_33 (by decide) ?_
      refine lv_istore_n (lv' := [(2, .int 0), (1, .int (-1)), (0, .ref a0)]) hx hb dX0_pair_34 rfl hl (by decide) rfl (fun ls hl => ?_)
      refine lv_iconst (v := 0) hx hb dX0_pair_35 (by decide) ?_
      refine lv_istore_n (lv' := [(3, .int 0), (2, .int 0), (1, .int (-1)), (0, .ref a0)]) hx hb dX0_pair_36 rfl hl (by decide) rfl (fun ls hl => ?_)
      have Lx_X0_pair_l37 : ∀ (n37_7 : Nat) (x4 : Int32) (x5 : Int32) (x6 : Int32) (C7 : XH) (H : Heap) (locs : List Loc) (ls : Array Slot), x_X0_pair_l37 K a0 n37_7 x4 x5 x6 C7 → xI D dT A s.heap C7 H locs → lv_has ls 6 [(0, .ref a0), (1, .int x4), (2, .int x5), (3, .int x6)] → W p l e (xRm 7 162 1 7) s m args below meth c H locs 1 7 (vx_MQ below (xQi D dT K A) (xXC D dT xE0 A) args s 1 7 A) (F0 m 37 ls []) := by
        intro n37_7
        induction n37_7 with
        | zero =>
          intro x4 x5 x6 C7 H locs ls hs
          exact False.elim hs
        | succ n37_7 ihx_X0_pair_l37 =>
          intro x4 x5 x6 C7 H locs ls hs hI hl
          rw [x_X0_pair_l37_s] at hs
          refine lv_iload_n hx hb dX0_pair_37 rfl (lv_at hl 3 rfl) ?_
          refine lv_aload_n hx hb dX0_pair_38 rfl (lv_at hl 0 rfl) ?_
          obtain ⟨ad9, ead9, hs⟩ := hs
          refine x_get (v := .ref ad9) X hK hI 0 7 rfl in_X0 rfl q335 rfl (xgr_spec ead9) dX0_pair_39 ?_
          obtain ⟨v10, ev10, hs⟩ := hs
          refine x_get (v := .int v10) X hK hI 4 0 rfl in_X4 rfl q252 rfl (xgi_spec ev10) dX0_pair_42 ?_
          refine lv_icmp_ge (tgt := 127) hx hb dX0_pair_45 (by decide) (fun c37 => ?_) (fun c37 => ?_)
          · replace hs := ifp c37 hs
            refine lv_iload_n hx hb dX0_pair_127 rfl (lv_at hl 1 rfl) ?_
            exact vx_ret (x_reti X hK hI hs (Nat.le_of_ble_eq_true rfl) (Nat.le_of_ble_eq_true rfl) dX0_pair_128)
          · replace hs := ifn c37 hs
            refine lv_iload_n hx hb dX0_pair_48 rfl (lv_at hl 3 rfl) ?_
            refine lv_iconst (v := 1) hx hb dX0_pair_49 (by decide) ?_
            refine lv_iadd hx hb dX0_pair_50 ?_
            refine lv_istore (lv' := [(4, .int (x6 + 1)), (0, .ref a0), (1, .int x4), (2, .int x5), (3, .int x6)]) hx hb dX0_pair_51 hl (by decide) rfl (fun ls hl => ?_)
            obtain ⟨k121_13, hk121_13, hs⟩ := jn_ex hs
            have Ek121_13 : ∀ (x11 : Int32) (x12 : Int32) (C13 : XH) (H : Heap) (locs : List Loc) (ls : Array Slot), k121_13 x11 x12 C13 → xI D dT A s.heap C13 H locs → lv_has ls 6 [(0, .ref a0), (1, .int x11), (2, .int x12), (3, .int x6)] → W p l e (xRm 7 162 1 7) s m args below meth c H locs 1 7 (vx_MQ below (xQi D dT K A) (xXC D dT xE0 A) args s 1 7 A) (F0 m 121 ls []) := by
              intro x11 x12 C13 H locs ls hs hI hl
              rw [hk121_13] at hs
              refine lv_iinc (v := (x6 + 1)) (lv' := [(3, .int (x6 + 1)), (0, .ref a0), (1, .int x11), (2, .int x12)]) hx hb dX0_pair_121 hl (k := 3) rfl (congrArg (fun z => x6 + z) (show Int32.ofInt (1) = 1 by decide)) (by decide) rfl (fun ls hl => ?_)
              refine lv_goto (tgt := 37) hx hb dX0_pair_124 (by decide) ?_
              exact ihx_X0_pair_l37 _ _ _ _ _ _ _ hs hI (lv_sub hl [1, 2, 3, 0] rfl)
            have Lx_X0_pair_l53 : ∀ (n53_18 : Nat) (x15 : Int32) (x16 : Int32) (x17 : Int32) (C18 : XH) (H : Heap) (locs : List Loc) (ls : Array Slot), x_X0_pair_l53 a0 x6 k121_13 n53_18 x15 x16 x17 C18 → xI D dT A s.heap C18 H locs → lv_has ls 6 [(0, .ref a0), (1, .int x15), (2, .int x16), (3, .int x6), (4, .int x17)] → W p l e (xRm 7 162 1 7) s m args below meth c H locs 1 7 (vx_MQ below (xQi D dT K A) (xXC D dT xE0 A) args s 1 7 A) (F0 m 53 ls []) := by
              intro n53_18
              induction n53_18 with
              | zero =>
                intro x15 x16 x17 C18 H locs ls hs
                exact False.elim hs
              | succ n53_18 ihx_X0_pair_l53 =>
                intro x15 x16 x17 C18 H locs ls hs hI hl
                rw [x_X0_pair_l53_s] at hs
                refine lv_iload hx hb dX0_pair_53 (lv_at hl 4 rfl) ?_
                refine lv_aload_n hx hb dX0_pair_55 rfl (lv_at hl 0 rfl) ?_
                obtain ⟨ad20, ead20, hs⟩ := hs
                refine x_get (v := .ref ad20) X hK hI 0 7 rfl in_X0 rfl q335 rfl (xgr_spec ead20) dX0_pair_56 ?_
                obtain ⟨v21, ev21, hs⟩ := hs
                refine x_get (v := .int v21) X hK hI 4 0 rfl in_X4 rfl q252 rfl (xgi_spec ev21) dX0_pair_59 ?_
                refine lv_icmp_ge (tgt := 121) hx hb dX0_pair_62 (by decide) (fun c36 => ?_) (fun c36 => ?_)
                · replace hs := ifp c36 hs
                  exact Ek121_13 _ _ _ _ _ _ hs hI (lv_sub hl [0, 1, 2, 3] rfl)
                · replace hs := ifn c36 hs
                  refine lv_aload_n hx hb dX0_pair_65 rfl (lv_at hl 0 rfl) ?_
                  obtain ⟨ad22, ead22, hs⟩ := hs
                  refine x_get (v := .ref ad22) X hK hI 0 3 rfl in_X0 rfl q331 rfl (xgr_spec ead22) dX0_pair_66 ?_
                  refine lv_aload_n hx hb dX0_pair_69 rfl (lv_at hl 0 rfl) ?_
                  obtain ⟨ad23, ead23, hs⟩ := hs
                  refine x_get (v := .ref ad23) X hK hI 0 7 rfl in_X0 rfl q335 rfl (xgr_spec ead23) dX0_pair_70 ?_
                  refine lv_iload_n hx hb dX0_pair_73 rfl (lv_at hl 3 rfl) ?_
                  refine lv_iload hx hb dX0_pair_74 (lv_at hl 4 rfl) ?_
                  refine lv_aload_n hx hb dX0_pair_76 rfl (lv_at hl 0 rfl) ?_
                  obtain ⟨ad24, ead24, hs⟩ := hs
                  refine x_get (v := .ref ad24) X hK hI 0 7 rfl in_X0 rfl q335 rfl (xgr_spec ead24) dX0_pair_77 ?_
                  obtain ⟨ad25, ead25, hs⟩ := hs
                  refine x_get (v := .ref ad25) X hK hI 4 8 rfl in_X4 rfl q280 rfl (xgr_spec ead25) dX0_pair_80 ?_
                  refine lv_iload_n hx hb dX0_pair_83 rfl (lv_at hl 3 rfl) ?_
                  obtain ⟨v26, ev26, hs⟩ := hs
                  refine x_iald X hK hI ev26 dX0_pair_84 ?_
                  obtain ⟨h28, hs⟩ := hs
                  obtain ⟨fh28, h28⟩ := xcl_spec h28
                  refine x_gor hA hI (x_runV (As := [.ref ad23, .int x6, .int x17, .int v26]) (rest := []) X hK hA hG hI h28 (q := (RX2, TX2, 12)) rfl rfl (xet_X2_ofTwo l ad22 ad23 x6 x17 v26 _ _ hs) iX2_ofTwo q1276 q1277 q1278 q96 ⟨(Nat.le_of_ble_eq_true rfl), (Nat.le_of_ble_eq_true rfl)⟩ rfl hl.1 rfl (Nat.le_of_ble_eq_true rfl) dX0_pair_85 ⟨(Nat.le_of_ble_eq_true rfl), (Nat.le_of_ble_eq_true rfl)⟩) (fun ad28 C27 H locs hs9 hI => ?_)
                  replace hs := hs9
                  obtain ⟨h31, hs⟩ := hs
                  obtain ⟨fh31, h31⟩ := xcl_spec h31
                  refine x_goi hA hI (x_runV (As := []) (rest := []) X hK hA hG hI h31 (q := (RX2, TX2, 12)) rfl rfl (xet_X2_comesIn l ad28 _ _ hs) iX2_comesIn q1197 q1198 q1199 q96 ⟨(Nat.le_of_ble_eq_true rfl), (Nat.le_of_ble_eq_true rfl)⟩ rfl hl.1 rfl (Nat.le_of_ble_eq_true rfl) dX0_pair_88 ⟨(Nat.le_of_ble_eq_true rfl), (Nat.le_of_ble_eq_true rfl)⟩) (fun r31 C30 H locs hs9 hI => ?_)
                  replace hs := hs9
                  refine lv_istore (lv' := [(5, .int r31), (0, .ref a0), (1, .int x15), (2, .int x16), (3, .int x6), (4, .int x17)]) hx hb dX0_pair_91 hl (by decide) rfl (fun ls hl => ?_)
                  refine lv_iload_n hx hb dX0_pair_93 rfl (lv_at hl 2 rfl) ?_
                  refine lv_iconst (v := (-1)) hx hb dX0_pair_94 (by decide) ?_
                  obtain ⟨k104_32, hk104_32, hs⟩ := jn_ex hs
                  have Ek104_32 : ∀ (H : Heap) (locs : List Loc) (ls : Array Slot), k104_32 → xI D dT A s.heap C30 H locs → lv_has ls 6 [(0, .ref a0), (3, .int x6), (4, .int x17), (5, .int r31)] → W p l e (xRm 7 162 1 7) s m args below meth c H locs 1 7 (vx_MQ below (xQi D dT K A) (xXC D dT xE0 A) args s 1 7 A) (F0 m 104 ls []) := by
                    intro H locs ls hs hI hl
                    rw [hk104_32] at hs
                    refine lv_bipush (v := 100) hx hb dX0_pair_104 (by decide) ?_
                    refine lv_iload_n hx hb dX0_pair_106 rfl (lv_at hl 1 rfl) ?_
                    refine lv_imul hx hb dX0_pair_107 ?_
                    refine lv_iload hx hb dX0_pair_108 (lv_at hl 2 rfl) ?_
                    refine lv_iadd hx hb dX0_pair_110 ?_
                    refine lv_istore_n (lv' := [(1, .int ((100 * x6) + x17)), (0, .ref a0), (3, .int x6), (4, .int x17), (5, .int r31)]) hx hb dX0_pair_111 rfl hl (by decide) rfl (fun ls hl => ?_)
                    refine lv_iload hx hb dX0_pair_112 (lv_at hl 4 rfl) ?_
                    refine lv_istore_n (lv' := [(2, .int r31), (1, .int ((100 * x6) + x17)), (0, .ref a0), (3, .int x6), (4, .int x17), (5, .int r31)]) hx hb dX0_pair_114 rfl hl (by decide) rfl (fun ls hl => ?_)
                    refine lv_iinc (v := (x17 + 1)) (lv' := [(4, .int (x17 + 1)), (2, .int r31), (1, .int ((100 * x6) + x17)), (0, .ref a0), (3, .int x6), (5, .int r31)]) hx hb dX0_pair_115 hl (k := 4) rfl (congrArg (fun z => x17 + z) (show Int32.ofInt (1) = 1 by decide)) (by decide) rfl (fun ls hl => ?_)
                    refine lv_goto (tgt := 53) hx hb dX0_pair_118 (by decide) ?_
                    exact ihx_X0_pair_l53 _ _ _ _ _ _ _ hs hI (lv_sub hl [3, 2, 1, 4, 0] rfl)
                  obtain ⟨k115_34, hk115_34, hs⟩ := jn_ex hs
                  have Ek115_34 : ∀ (x33 : Int32) (x34 : Int32) (H : Heap) (locs : List Loc) (ls : Array Slot), k115_34 x33 x34 → xI D dT A s.heap C30 H locs → lv_has ls 6 [(0, .ref a0), (1, .int x33), (2, .int x34), (3, .int x6), (4, .int x17)] → W p l e (xRm 7 162 1 7) s m args below meth c H locs 1 7 (vx_MQ below (xQi D dT K A) (xXC D dT xE0 A) args s 1 7 A) (F0 m 115 ls []) := by
                    intro x33 x34 H locs ls hs hI hl
                    rw [hk115_34] at hs
                    refine lv_iinc (v := (x17 + 1)) (lv' := [(4, .int (x17 + 1)), (0, .ref a0), (1, .int x33), (2, .int x34), (3, .int x6)]) hx hb dX0_pair_115 hl (k := 4) rfl (congrArg (fun z => x17 + z) (show Int32.ofInt (1) = 1 by decide)) (by decide) rfl (fun ls hl => ?_)
                    refine lv_goto (tgt := 53) hx hb dX0_pair_118 (by decide) ?_
                    exact ihx_X0_pair_l53 _ _ _ _ _ _ _ hs hI (lv_sub hl [1, 2, 3, 4, 0] rfl)
                  refine lv_icmp_eq (tgt := 104) hx hb dX0_pair_95 (by decide) (fun c35 => ?_) (fun c35 => ?_)
                  · replace hs := ifp c35 hs
                    exact Ek104_32 _ _ _ hs hI (lv_sub hl [1, 4, 5, 0] rfl)
                  · replace hs := ifn c35 hs
                    refine lv_iload hx hb dX0_pair_98 (lv_at hl 0 rfl) ?_
                    refine lv_iload_n hx hb dX0_pair_100 rfl (lv_at hl 3 rfl) ?_
                    refine lv_icmp_ge (tgt := 115) hx hb dX0_pair_101 (by decide) (fun c34 => ?_) (fun c34 => ?_)
                    · replace hs := ifp c34 hs
                      exact Ek115_34 _ _ _ _ _ hs hI (lv_sub hl [1, 2, 3, 4, 5] rfl)
                    · replace hs := ifn c34 hs
                      exact Ek104_32 _ _ _ hs hI (lv_sub hl [1, 4, 5, 0] rfl)
            exact Lx_X0_pair_l53 NF _ _ _ _ _ _ _ hs hI (lv_sub hl [1, 2, 3, 4, 0] rfl)
      exact Lx_X0_pair_l37 NF _ _ _ _ _ _ _ hs hI (lv_sub hl [3, 2, 1, 0] rfl)
  obtain ⟨k26_44, hk26_44, hs⟩ := jn_ex hs
  have Ek26_44 : ∀ (v44 : Int32) (H : Heap) (locs : List Loc) (ls : Array Slot), k26_44 v44 → xI D dT A s.heap C H locs → lv_has ls 6 [(0, .ref a0)] → W p l e (xRm 7 162 1 7) s m args below meth c H locs 0 0 (vx_MQ below (xQi D dT K A) (xXC D dT xE0 A) args s 1 7 A) (F0 m 26 ls [.int v44]) := by
    intro v44 H locs ls hs hI hl
    rw [hk26_44] at hs
    refine lv_bipush (v := (-5)) hx hb dX0_pair_26 (by decide) ?_
    refine xT_gov hA hI (x_runST (As := [.int v44, .int (-5)]) (rest := []) X hK hA hG hI (xet_X0_need l hl0 v44 (-5) _ _ _ hs) iX0_need q469 q470 q94 ⟨(Nat.le_of_ble_eq_true rfl), (Nat.le_of_ble_eq_true rfl)⟩ rfl hl.1 rfl (Nat.le_of_ble_eq_true rfl) dX0_pair_28 ⟨(Nat.le_of_ble_eq_true rfl), (Nat.le_of_ble_eq_true rfl)⟩) (fun En ce ad81 C82 H locs hs9 hI hce hvm hcl => ?_) (fun C45 H locs hs9 hI => ?_)
    · obtain ⟨rfl, hs0⟩ := hs9
      replace hs := hs0
      refine x_catch (k := 0) (a1 := 0) (a2 := 128) (a3 := 129) (a4 := 21) X hG hT rfl (x_cov rfl) rfl (by decide) q363 (by decide) hce hvm hcl ?_
      refine lv_astore_n (lv' := [(1, .ref ad81), (0, .ref a0)]) hx hb dX0_pair_129 rfl hl (by decide) rfl (fun ls hl => ?_)
      refine lv_aload_n hx hb dX0_pair_130 rfl (lv_at hl 1 rfl) ?_
      refine lv_aload_n hx hb dX0_pair_131 rfl (lv_at hl 0 rfl) ?_
      obtain ⟨h84, hs⟩ := hs
      obtain ⟨fh84, h84⟩ := xcl_spec h84
      refine x_goi hA hI (x_runV (As := [.ref ad81]) (rest := []) X hK hA hG hI h84 (q := (RX0, TX0, 10)) rfl rfl (xet_X0_refused l a0 ad81 _ _ hs) iX0_refused q538 q540 qs2 q94 ⟨(Nat.le_of_ble_eq_true rfl), (Nat.le_of_ble_eq_true rfl)⟩ rfl hl.1 rfl (Nat.le_of_ble_eq_true rfl) dX0_pair_132 ⟨(Nat.le_of_ble_eq_true rfl), (Nat.le_of_ble_eq_true rfl)⟩) (fun r84 C83 H locs hs9 hI => ?_)
      replace hs := hs9
      exact vx_ret (x_reti X hK hI hs (Nat.le_of_ble_eq_true rfl) (Nat.le_of_ble_eq_true rfl) dX0_pair_135)
    · replace hs := hs9
      refine lv_iconst (v := (-1)) hx hb dX0_pair_31 (by decide) ?_
      refine lv_istore_n (lv' := [(1, .int (-1)), (0, .ref a0)]) hx hb dX0_pair_32 rfl hl (by decide) rfl (fun ls hl => ?_)
      refine lv_iconst (v := 0) hx hb dX0_pair_33 (by decide) ?_
      refine lv_istore_n (lv' := [(2, .int 0), (1, .int (-1)), (0, .ref a0)]) hx hb dX0_pair_34 rfl hl (by decide) rfl (fun ls hl => ?_)
      refine lv_iconst (v := 0) hx hb dX0_pair_35 (by decide) ?_
      refine lv_istore_n (lv' := [(3, .int 0), (2, .int 0), (1, .int (-1)), (0, .ref a0)]) hx hb dX0_pair_36 rfl hl (by decide) rfl (fun ls hl => ?_)
      have Lx_X0_pair_l37b : ∀ (n37_49 : Nat) (x46 : Int32) (x47 : Int32) (x48 : Int32) (C49 : XH) (H : Heap) (locs : List Loc) (ls : Array Slot), x_X0_pair_l37b K a0 n37_49 x46 x47 x48 C49 → xI D dT A s.heap C49 H locs → lv_has ls 6 [(0, .ref a0), (1, .int x46), (2, .int x47), (3, .int x48)] → W p l e (xRm 7 162 1 7) s m args below meth c H locs 1 7 (vx_MQ below (xQi D dT K A) (xXC D dT xE0 A) args s 1 7 A) (F0 m 37 ls []) := by
        intro n37_49
        induction n37_49 with
        | zero =>
          intro x46 x47 x48 C49 H locs ls hs
          exact False.elim hs
        | succ n37_49 ihx_X0_pair_l37b =>
          intro x46 x47 x48 C49 H locs ls hs hI hl
          rw [x_X0_pair_l37b_s] at hs
          refine lv_iload_n hx hb dX0_pair_37 rfl (lv_at hl 3 rfl) ?_
          refine lv_aload_n hx hb dX0_pair_38 rfl (lv_at hl 0 rfl) ?_
          obtain ⟨ad51, ead51, hs⟩ := hs
          refine x_get (v := .ref ad51) X hK hI 0 7 rfl in_X0 rfl q335 rfl (xgr_spec ead51) dX0_pair_39 ?_
          obtain ⟨v52, ev52, hs⟩ := hs
          refine x_get (v := .int v52) X hK hI 4 0 rfl in_X4 rfl q252 rfl (xgi_spec ev52) dX0_pair_42 ?_
          refine lv_icmp_ge (tgt := 127) hx hb dX0_pair_45 (by decide) (fun c79 => ?_) (fun c79 => ?_)
          · replace hs := ifp c79 hs
            refine lv_iload_n hx hb dX0_pair_127 rfl (lv_at hl 1 rfl) ?_
            exact vx_ret (x_reti X hK hI hs (Nat.le_of_ble_eq_true rfl) (Nat.le_of_ble_eq_true rfl) dX0_pair_128)
          · replace hs := ifn c79 hs
            refine lv_iload_n hx hb dX0_pair_48 rfl (lv_at hl 3 rfl) ?_
            refine lv_iconst (v := 1) hx hb dX0_pair_49 (by decide) ?_
            refine lv_iadd hx hb dX0_pair_50 ?_
            refine lv_istore (lv' := [(4, .int (x48 + 1)), (0, .ref a0), (1, .int x46), (2, .int x47), (3, .int x48)]) hx hb dX0_pair_51 hl (by decide) rfl (fun ls hl => ?_)
            obtain ⟨k121_55, hk121_55, hs⟩ := jn_ex hs
            have Ek121_55 : ∀ (x53 : Int32) (x54 : Int32) (C55 : XH) (H : Heap) (locs : List Loc) (ls : Array Slot), k121_55 x53 x54 C55 → xI D dT A s.heap C55 H locs → lv_has ls 6 [(0, .ref a0), (1, .int x53), (2, .int x54), (3, .int x48)] → W p l e (xRm 7 162 1 7) s m args below meth c H locs 1 7 (vx_MQ below (xQi D dT K A) (xXC D dT xE0 A) args s 1 7 A) (F0 m 121 ls []) := by
              intro x53 x54 C55 H locs ls hs hI hl
              rw [hk121_55] at hs
              refine lv_iinc (v := (x48 + 1)) (lv' := [(3, .int (x48 + 1)), (0, .ref a0), (1, .int x53), (2, .int x54)]) hx hb dX0_pair_121 hl (k := 3) rfl (congrArg (fun z => x48 + z) (show Int32.ofInt (1) = 1 by decide)) (by decide) rfl (fun ls hl => ?_)
              refine lv_goto (tgt := 37) hx hb dX0_pair_124 (by decide) ?_
              exact ihx_X0_pair_l37b _ _ _ _ _ _ _ hs hI (lv_sub hl [1, 2, 3, 0] rfl)
            have Lx_X0_pair_l53b : ∀ (n53_60 : Nat) (x57 : Int32) (x58 : Int32) (x59 : Int32) (C60 : XH) (H : Heap) (locs : List Loc) (ls : Array Slot), x_X0_pair_l53b a0 x48 k121_55 n53_60 x57 x58 x59 C60 → xI D dT A s.heap C60 H locs → lv_has ls 6 [(0, .ref a0), (1, .int x57), (2, .int x58), (3, .int x48), (4, .int x59)] → W p l e (xRm 7 162 1 7) s m args below meth c H locs 1 7 (vx_MQ below (xQi D dT K A) (xXC D dT xE0 A) args s 1 7 A) (F0 m 53 ls []) := by
              intro n53_60
              induction n53_60 with
              | zero =>
                intro x57 x58 x59 C60 H locs ls hs
                exact False.elim hs
              | succ n53_60 ihx_X0_pair_l53b =>
                intro x57 x58 x59 C60 H locs ls hs hI hl
                rw [x_X0_pair_l53b_s] at hs
                refine lv_iload hx hb dX0_pair_53 (lv_at hl 4 rfl) ?_
                refine lv_aload_n hx hb dX0_pair_55 rfl (lv_at hl 0 rfl) ?_
                obtain ⟨ad62, ead62, hs⟩ := hs
                refine x_get (v := .ref ad62) X hK hI 0 7 rfl in_X0 rfl q335 rfl (xgr_spec ead62) dX0_pair_56 ?_
                obtain ⟨v63, ev63, hs⟩ := hs
                refine x_get (v := .int v63) X hK hI 4 0 rfl in_X4 rfl q252 rfl (xgi_spec ev63) dX0_pair_59 ?_
                refine lv_icmp_ge (tgt := 121) hx hb dX0_pair_62 (by decide) (fun c78 => ?_) (fun c78 => ?_)
                · replace hs := ifp c78 hs
                  exact Ek121_55 _ _ _ _ _ _ hs hI (lv_sub hl [0, 1, 2, 3] rfl)
                · replace hs := ifn c78 hs
                  refine lv_aload_n hx hb dX0_pair_65 rfl (lv_at hl 0 rfl) ?_
                  obtain ⟨ad64, ead64, hs⟩ := hs
                  refine x_get (v := .ref ad64) X hK hI 0 3 rfl in_X0 rfl q331 rfl (xgr_spec ead64) dX0_pair_66 ?_
                  refine lv_aload_n hx hb dX0_pair_69 rfl (lv_at hl 0 rfl) ?_
                  obtain ⟨ad65, ead65, hs⟩ := hs
                  refine x_get (v := .ref ad65) X hK hI 0 7 rfl in_X0 rfl q335 rfl (xgr_spec ead65) dX0_pair_70 ?_
                  refine lv_iload_n hx hb dX0_pair_73 rfl (lv_at hl 3 rfl) ?_
                  refine lv_iload hx hb dX0_pair_74 (lv_at hl 4 rfl) ?_
                  refine lv_aload_n hx hb dX0_pair_76 rfl (lv_at hl 0 rfl) ?_
                  obtain ⟨ad66, ead66, hs⟩ := hs
                  refine x_get (v := .ref ad66) X hK hI 0 7 rfl in_X0 rfl q335 rfl (xgr_spec ead66) dX0_pair_77 ?_
                  obtain ⟨ad67, ead67, hs⟩ := hs
                  refine x_get (v := .ref ad67) X hK hI 4 8 rfl in_X4 rfl q280 rfl (xgr_spec ead67) dX0_pair_80 ?_
                  refine lv_iload_n hx hb dX0_pair_83 rfl (lv_at hl 3 rfl) ?_
                  obtain ⟨v68, ev68, hs⟩ := hs
                  refine x_iald X hK hI ev68 dX0_pair_84 ?_
                  obtain ⟨h70, hs⟩ := hs
                  obtain ⟨fh70, h70⟩ := xcl_spec h70
                  refine x_gor hA hI (x_runV (As := [.ref ad65, .int x48, .int x59, .int v68]) (rest := []) X hK hA hG hI h70 (q := (RX2, TX2, 12)) rfl rfl (xet_X2_ofTwo l ad64 ad65 x48 x59 v68 _ _ hs) iX2_ofTwo q1276 q1277 q1278 q96 ⟨(Nat.le_of_ble_eq_true rfl), (Nat.le_of_ble_eq_true rfl)⟩ rfl hl.1 rfl (Nat.le_of_ble_eq_true rfl) dX0_pair_85 ⟨(Nat.le_of_ble_eq_true rfl), (Nat.le_of_ble_eq_true rfl)⟩) (fun ad70 C69 H locs hs9 hI => ?_)
                  replace hs := hs9
                  obtain ⟨h73, hs⟩ := hs
                  obtain ⟨fh73, h73⟩ := xcl_spec h73
                  refine x_goi hA hI (x_runV (As := []) (rest := []) X hK hA hG hI h73 (q := (RX2, TX2, 12)) rfl rfl (xet_X2_comesIn l ad70 _ _ hs) iX2_comesIn q1197 q1198 q1199 q96 ⟨(Nat.le_of_ble_eq_true rfl), (Nat.le_of_ble_eq_true rfl)⟩ rfl hl.1 rfl (Nat.le_of_ble_eq_true rfl) dX0_pair_88 ⟨(Nat.le_of_ble_eq_true rfl), (Nat.le_of_ble_eq_true rfl)⟩) (fun r73 C72 H locs hs9 hI => ?_)
                  replace hs := hs9
                  refine lv_istore (lv' := [(5, .int r73), (0, .ref a0), (1, .int x57), (2, .int x58), (3, .int x48), (4, .int x59)]) hx hb dX0_pair_91 hl (by decide) rfl (fun ls hl => ?_)
                  refine lv_iload_n hx hb dX0_pair_93 rfl (lv_at hl 2 rfl) ?_
                  refine lv_iconst (v := (-1)) hx hb dX0_pair_94 (by decide) ?_
                  obtain ⟨k104_74, hk104_74, hs⟩ := jn_ex hs
                  have Ek104_74 : ∀ (H : Heap) (locs : List Loc) (ls : Array Slot), k104_74 → xI D dT A s.heap C72 H locs → lv_has ls 6 [(0, .ref a0), (3, .int x48), (4, .int x59), (5, .int r73)] → W p l e (xRm 7 162 1 7) s m args below meth c H locs 1 7 (vx_MQ below (xQi D dT K A) (xXC D dT xE0 A) args s 1 7 A) (F0 m 104 ls []) := by
                    intro H locs ls hs hI hl
                    rw [hk104_74] at hs
                    refine lv_bipush (v := 100) hx hb dX0_pair_104 (by decide) ?_
                    refine lv_iload_n hx hb dX0_pair_106 rfl (lv_at hl 1 rfl) ?_
                    refine lv_imul hx hb dX0_pair_107 ?_
                    refine lv_iload hx hb dX0_pair_108 (lv_at hl 2 rfl) ?_
                    refine lv_iadd hx hb dX0_pair_110 ?_
                    refine lv_istore_n (lv' := [(1, .int ((100 * x48) + x59)), (0, .ref a0), (3, .int x48), (4, .int x59), (5, .int r73)]) hx hb dX0_pair_111 rfl hl (by decide) rfl (fun ls hl => ?_)
                    refine lv_iload hx hb dX0_pair_112 (lv_at hl 4 rfl) ?_
                    refine lv_istore_n (lv' := [(2, .int r73), (1, .int ((100 * x48) + x59)), (0, .ref a0), (3, .int x48), (4, .int x59), (5, .int r73)]) hx hb dX0_pair_114 rfl hl (by decide) rfl (fun ls hl => ?_)
                    refine lv_iinc (v := (x59 + 1)) (lv' := [(4, .int (x59 + 1)), (2, .int r73), (1, .int ((100 * x48) + x59)), (0, .ref a0), (3, .int x48), (5, .int r73)]) hx hb dX0_pair_115 hl (k := 4) rfl (congrArg (fun z => x59 + z) (show Int32.ofInt (1) = 1 by decide)) (by decide) rfl (fun ls hl => ?_)
                    refine lv_goto (tgt := 53) hx hb dX0_pair_118 (by decide) ?_
                    exact ihx_X0_pair_l53b _ _ _ _ _ _ _ hs hI (lv_sub hl [3, 2, 1, 4, 0] rfl)
                  obtain ⟨k115_76, hk115_76, hs⟩ := jn_ex hs
                  have Ek115_76 : ∀ (x75 : Int32) (x76 : Int32) (H : Heap) (locs : List Loc) (ls : Array Slot), k115_76 x75 x76 → xI D dT A s.heap C72 H locs → lv_has ls 6 [(0, .ref a0), (1, .int x75), (2, .int x76), (3, .int x48), (4, .int x59)] → W p l e (xRm 7 162 1 7) s m args below meth c H locs 1 7 (vx_MQ below (xQi D dT K A) (xXC D dT xE0 A) args s 1 7 A) (F0 m 115 ls []) := by
                    intro x75 x76 H locs ls hs hI hl
                    rw [hk115_76] at hs
                    refine lv_iinc (v := (x59 + 1)) (lv' := [(4, .int (x59 + 1)), (0, .ref a0), (1, .int x75), (2, .int x76), (3, .int x48)]) hx hb dX0_pair_115 hl (k := 4) rfl (congrArg (fun z => x59 + z) (show Int32.ofInt (1) = 1 by decide)) (by decide) rfl (fun ls hl => ?_)
                    refine lv_goto (tgt := 53) hx hb dX0_pair_118 (by decide) ?_
                    exact ihx_X0_pair_l53b _ _ _ _ _ _ _ hs hI (lv_sub hl [1, 2, 3, 4, 0] rfl)
                  refine lv_icmp_eq (tgt := 104) hx hb dX0_pair_95 (by decide) (fun c77 => ?_) (fun c77 => ?_)
                  · replace hs := ifp c77 hs
                    exact Ek104_74 _ _ _ hs hI (lv_sub hl [1, 4, 5, 0] rfl)
                  · replace hs := ifn c77 hs
                    refine lv_iload hx hb dX0_pair_98 (lv_at hl 0 rfl) ?_
                    refine lv_iload_n hx hb dX0_pair_100 rfl (lv_at hl 3 rfl) ?_
                    refine lv_icmp_ge (tgt := 115) hx hb dX0_pair_101 (by decide) (fun c76 => ?_) (fun c76 => ?_)
                    · replace hs := ifp c76 hs
                      exact Ek115_76 _ _ _ _ _ hs hI (lv_sub hl [1, 2, 3, 4, 5] rfl)
                    · replace hs := ifn c76 hs
                      exact Ek104_74 _ _ _ hs hI (lv_sub hl [1, 4, 5, 0] rfl)
            exact Lx_X0_pair_l53b NF _ _ _ _ _ _ _ hs hI (lv_sub hl [1, 2, 3, 4, 0] rfl)
      exact Lx_X0_pair_l37b NF _ _ _ _ _ _ _ hs hI (lv_sub hl [3, 2, 1, 0] rfl)
  refine lv_icmp_le (tgt := 25) hx hb dX0_pair_8 (by decide) (fun c88 => ?_) (fun c88 => ?_)
  · replace hs := ifp c88 hs
    exact Ek25_2 _ _ _ hs hI hl
  · replace hs := ifn c88 hs
    refine lv_aload_n hx hb dX0_pair_11 rfl (lv_at hl 0 rfl) ?_
    obtain ⟨ad86, ead86, hs⟩ := hs
    refine x_get (v := .ref ad86) X hK hI 0 7 rfl in_X0 rfl q335 rfl (xgr_spec ead86) dX0_pair_12 ?_
    obtain ⟨v87, ev87, hs⟩ := hs
    refine x_get (v := .int v87) X hK hI 4 1 rfl in_X4 rfl q257 rfl (xgi_spec ev87) dX0_pair_15 ?_
    refine lv_if_le (tgt := 25) hx hb dX0_pair_18 (by decide) (fun c87 => ?_) (fun c87 => ?_)
    · replace hs := ifp c87 hs
      exact Ek25_2 _ _ _ hs hI hl
    · replace hs := ifn c87 hs
      refine lv_iconst (v := 1) hx hb dX0_pair_21 (by decide) ?_
      refine lv_goto (tgt := 26) hx hb dX0_pair_22 (by decide) ?_
      exact Ek26_44 _ _ _ _ hs hI hl
def x_X0_startOf_l14 (K : Int32 → XH → Prop) (a0 : Nat) (a1 : Int32) (a2 : Int32) : Nat → Int32 → XH → Prop
  | 0, _, _ => False
  | n14_7 + 1, x6, C7 => (if 99 < x6 then K (-1) C7 else obd (xgr C7 (xis 0) a0 6) (fun ad9 => obd (xgr C7 (xis 4) ad9 9) (fun ad10 => obd (xsi C7 ad10 a1 x6) (fun C11 => obd (xgr C11 (xis 0) a0 3) (fun ad12 => obd (xgr C11 (xis 0) a0 6) (fun ad13 => (xcl C11 ad12 = some 2 ∧ x_X2_of ad12 ad13 a1 C11 (fun ad15 C14 => (xcl C14 ad15 = some 2 ∧ x_X2_comesIn ad15 C14 (fun r18 C17 => (if a2 < r18 then x_X0_startOf_l14 K a0 a1 a2 n14_7 (x6 + 1) C17 else K x6 C17)))))))))))
theorem x_X0_startOf_l14_s (K : Int32 → XH → Prop) (a0 : Nat) (a1 : Int32) (a2 : Int32) (n14_7 : Nat) (x6 : Int32) (C7 : XH) : x_X0_startOf_l14 K a0 a1 a2 (n14_7 + 1) x6 C7 = ((if 99 < x6 then K (-1) C7 else obd (xgr C7 (xis 0) a0 6) (fun ad9 => obd (xgr C7 (xis 4) ad9 9) (fun ad10 => obd (xsi C7 ad10 a1 x6) (fun C11 => obd (xgr C11 (xis 0) a0 3) (fun ad12 => obd (xgr C11 (xis 0) a0 6) (fun ad13 => (xcl C11 ad12 = some 2 ∧ x_X2_of ad12 ad13 a1 C11 (fun ad15 C14 => (xcl C14 ad15 = some 2 ∧ x_X2_comesIn ad15 C14 (fun r18 C17 => (if a2 < r18 then x_X0_startOf_l14 K a0 a1 a2 n14_7 (x6 + 1) C17 else K x6 C17)))))))))))) := rfl
def x_X0_startOf (a0 : Nat) (a1 : Int32) (a2 : Int32) (C : XH) (K : Int32 → XH → Prop) : Prop := obd (xgr C (xis 0) a0 6) (fun ad1 => obd (xgr C (xis 0) a0 7) (fun ad2 => (xcl C ad1 = some 4 ∧ x_X4_take ad1 ad2 C (fun ad4 C3 => x_X0_startOf_l14 K a0 a1 a2 NF 0 C3))))
theorem iX0_startOf : xInf yX0_startOf cX0_startOf 4 (some .int) 2 := ⟨q1292, by decide +kernel⟩
set_option maxHeartbeats 4000000 in
theorem xet_X0_startOf (l : Launch) (a0 : Nat) (a1 : Int32) (a2 : Int32) (C : XH) (K : Int32 → XH → Prop) (hs : x_X0_startOf a0 a1 a2 C K) : xMeti l yX0_startOf (ws_ yX0_startOf cX0_startOf 4 (some .int)) 8 221 0 0 C [.ref a0, .int a1, .int a2] K := by
  intro D dT adK adV sz
  refine xEnter (own := RX0) (Qc := xQi D dT K) (by decide) rfl (by rfl) ?_
  intro p e s m args below meth c A ls X hnm hK hA hG hI hl
  have hx := X.1
  have hb := X.2.1
  have hts := X.2.2.2.2.1
  have hown := X.2.2.2.2.2.1
  have hl : lv_has ls 4 [(0, .ref a0), (1, .int a1), (2, .int a2)] := hl
  unfold x_X0_startOf at hs
  refine lv_aload_n hx hb dX0_startOf_0 rfl (lv_at hl 0 rfl) ?_
  obtain ⟨ad1, ead1, hs⟩ := hs
  refine x_get (v := .ref ad1) X hK hI 0 6 rfl in_X0 rfl q334 rfl (xgr_spec ead1) dX0_startOf_1 ?_
  refine lv_aload_n hx hb dX0_startOf_4 rfl (lv_at hl 0 rfl) ?_
  obtain ⟨ad2, ead2, hs⟩ := hs
  refine x_get (v := .ref ad2) X hK hI 0 7 rfl in_X0 rfl q335 rfl (xgr_spec ead2) dX0_startOf_5 ?_
  obtain ⟨h4, hs⟩ := hs
  obtain ⟨fh4, h4⟩ := xcl_spec h4
  refine x_gor hA hI (x_runV (As := [.ref ad2]) (rest := []) X hK hA hG hI h4 (q := (RX4, TX4, 13)) rfl rfl (xet_X4_take l ad1 ad2 _ _ hs) iX4_take q949 q950 q951 q98 ⟨(Nat.le_of_ble_eq_true rfl), (Nat.le_of_ble_eq_true rfl)⟩ rfl hl.1 rfl (Nat.le_of_ble_eq_true rfl) dX0_startOf_8 ⟨(Nat.le_of_ble_eq_true rfl), (Nat.le_of_ble_eq_true rfl)⟩) (fun ad4 C3 H locs hs9 hI => ?_)
  replace hs := hs9
  refine lv_pop hx hb dX0_startOf_11 rfl ?_
  refine lv_iconst (v := 0) hx hb dX0_startOf_12 (by decide) ?_
  refine lv_istore_n (lv' := [(3, .int 0), (0, .ref a0), (1, .int a1), (2, .int a2)]) hx hb dX0_startOf_13 rfl hl (by decide) rfl (fun ls hl => ?_)
  have Lx_X0_startOf_l14 : ∀ (n14_7 : Nat) (x6 : Int32) (C7 : XH) (H : Heap) (locs : List Loc) (ls : Array Slot), x_X0_startOf_l14 K a0 a1 a2 n14_7 x6 C7 → xI D dT A s.heap C7 H locs → lv_has ls 4 [(0, .ref a0), (1, .int a1), (2, .int a2), (3, .int x6)] → W p l e (xRm 8 221 0 0) s m args below meth c H locs 0 0 (MQ below (xQi D dT K A) args s 0 0 A) (F0 m 14 ls []) := by
    intro n14_7
    induction n14_7 with
    | zero =>
      intro x6 C7 H locs ls hs
      exact False.elim hs
    | succ n14_7 ihx_X0_startOf_l14 =>
      intro x6 C7 H locs ls hs hI hl
      rw [x_X0_startOf_l14_s] at hs
      refine lv_iload_n hx hb dX0_startOf_14 rfl (lv_at hl 3 rfl) ?_
      refine lv_bipush (v := 99) hx hb dX0_startOf_15 (by decide) ?_
      refine lv_icmp_gt (tgt := 57) hx hb dX0_startOf_17 (by decide) (fun c20 => ?_) (fun c20 => ?_)
      · replace hs := ifp c20 hs
        refine lv_iconst (v := (-1)) hx hb dX0_startOf_57 (by decide) ?_
        exact x_reti X hK hI hs (Nat.le_of_ble_eq_true rfl) (Nat.le_of_ble_eq_true rfl) dX0_startOf_58
      · replace hs := ifn c20 hs
        refine lv_aload_n hx hb dX0_startOf_20 rfl (lv_at hl 0 rfl) ?_
        obtain ⟨ad9, ead9, hs⟩ := hs
        refine x_get (v := .ref ad9) X hK hI 0 6 rfl in_X0 rfl q334 rfl (xgr_spec ead9) dX0_startOf_21 ?_
        obtain ⟨ad10, ead10, hs⟩ := hs
        refine x_get (v := .ref ad10) X hK hI 4 9 rfl in_X4 rfl q284 rfl (xgr_spec ead10) dX0_startOf_24 ?_
        refine lv_iload_n hx hb dX0_startOf_27 rfl (lv_at hl 1 rfl) ?_
        refine lv_iload_n hx hb dX0_startOf_28 rfl (lv_at hl 3 rfl) ?_
        obtain ⟨C11, eC11, hs⟩ := hs
        refine x_iast X hK hI eC11 dX0_startOf_29 (fun H locs hI => ?_)
        refine lv_aload_n hx hb dX0_startOf_30 rfl (lv_at hl 0 rfl) ?_
        obtain ⟨ad12, ead12, hs⟩ := hs
        refine x_get (v := .ref ad12) X hK hI 0 3 rfl in_X0 rfl q331 rfl (xgr_spec ead12) dX0_startOf_31 ?_
        refine lv_aload_n hx hb dX0_startOf_34 rfl (lv_at hl 0 rfl) ?_
        obtain ⟨ad13, ead13, hs⟩ := hs
        refine x_get (v := .ref ad13) X hK hI 0 6 rfl in_X0 rfl q334 rfl (xgr_spec ead13) dX0_startOf_35 ?_
        refine lv_iload_n hx hb dX0_startOf_38 rfl (lv_at hl 1 rfl) ?_
        obtain ⟨h15, hs⟩ := hs
        obtain ⟨fh15, h15⟩ := xcl_spec h15
        refine x_gor hA hI (x_runV (As := [.ref ad13, .int a1]) (rest := []) X hK hA hG hI h15 (q := (RX2, TX2, 12)) rfl rfl (xet_X2_of l ad12 ad13 a1 _ _ hs) iX2_of q1136 q1137 q1138 q96 ⟨(Nat.le_of_ble_eq_true rfl), (Nat.le_of_ble_eq_true rfl)⟩ rfl hl.1 rfl (Nat.le_of_ble_eq_true rfl) dX0_startOf_39 ⟨(Nat.le_of_ble_eq_true rfl), (Nat.le_of_ble_eq_true rfl)⟩) (fun ad15 C14 H locs hs9 hI => ?_)
        replace hs := hs9
        obtain ⟨h18, hs⟩ := hs
        obtain ⟨fh18, h18⟩ := xcl_spec h18
        refine x_goi hA hI (x_runV (As := []) (rest := []) X hK hA hG hI h18 (q := (RX2, TX2, 12)) rfl rfl (xet_X2_comesIn l ad15 _ _ hs) iX2_comesIn q1197 q1198 q1199 q96 ⟨(Nat.le_of_ble_eq_true rfl), (Nat.le_of_ble_eq_true rfl)⟩ rfl hl.1 rfl (Nat.le_of_ble_eq_true rfl) dX0_startOf_42 ⟨(Nat.le_of_ble_eq_true rfl), (Nat.le_of_ble_eq_true rfl)⟩) (fun r18 C17 H locs hs9 hI => ?_)
        replace hs := hs9
        refine lv_iload_n hx hb dX0_startOf_45 rfl (lv_at hl 2 rfl) ?_
        refine lv_icmp_gt (tgt := 51) hx hb dX0_startOf_46 (by decide) (fun c19 => ?_) (fun c19 => ?_)
        · replace hs := ifp c19 hs
          refine lv_iinc (v := (x6 + 1)) (lv' := [(3, .int (x6 + 1)), (0, .ref a0), (1, .int a1), (2, .int a2)]) hx hb dX0_startOf_51 hl (k := 3) rfl (congrArg (fun z => x6 + z) (show Int32.ofInt (1) = 1 by decide)) (by decide) rfl (fun ls hl => ?_)
          refine lv_goto (tgt := 14) hx hb dX0_startOf_54 (by decide) ?_
          exact ihx_X0_startOf_l14 _ _ _ _ _ hs hI (lv_sub hl [1, 2, 3, 0] rfl)
        · replace hs := ifn c19 hs
          refine lv_iload_n hx hb dX0_startOf_49 rfl (lv_at hl 3 rfl) ?_
          exact x_reti X hK hI hs (Nat.le_of_ble_eq_true rfl) (Nat.le_of_ble_eq_true rfl) dX0_startOf_50
  exact Lx_X0_startOf_l14 NF _ _ _ _ _ hs hI (lv_sub hl [1, 2, 3, 0] rfl)
def x_X0_start (a0 : Nat) (a1 : Int32) (a2 : Int32) (C : XH) (K : Int32 → XH → Prop) : Prop := obd (xgr C (xis 0) a0 7) (fun ad1 => (xcl C ad1 = some 4 ∧ x_X4_isChild ad1 a1 C (fun r3 C2 => jn (fun (C5 : XH) => x_X0_need 0 (-1) C5 (fun C6 => (xcl C6 a0 = some 0 ∧ x_X0_timeOf a0 a2 C6 (fun r8 C7 => (xcl C7 a0 = some 0 ∧ x_X0_startOf a0 a1 r8 C7 (fun r11 C10 => K r11 C10))))) (fun ad13 C14 => (xcl C14 a0 = some 0 ∧ x_X0_refused a0 ad13 C14 (fun r16 C15 => K (r16 - 10) C15)))) (fun k26_5 => jn (fun (v18 : Int32) (C19 : XH) => x_X0_need v18 (-1) C19 (fun C20 => (xcl C20 a0 = some 0 ∧ x_X0_timeOf a0 a2 C20 (fun r22 C21 => (xcl C21 a0 = some 0 ∧ x_X0_startOf a0 a1 r22 C21 (fun r25 C24 => K r25 C24))))) (fun ad27 C28 => (xcl C28 a0 = some 0 ∧ x_X0_refused a0 ad27 C28 (fun r30 C29 => K (r30 - 10) C29)))) (fun k27_19 => (if r3 = 0 then k26_5 C2 else obd (xgr C2 (xis 0) a0 7) (fun ad32 => (xcl C2 ad32 = some 4 ∧ x_X4_isChild ad32 a2 C2 (fun r34 C33 => (if r34 = 0 then k26_5 C33 else k27_19 1 C33))))))))))
theorem iX0_start : xInfW yX0_start cX0_start 4 (some .int) [(0, 41, 42, 21)] 2 := ⟨q1288, by decide +kernel⟩
set_option maxHeartbeats 4000000 in
theorem xet_X0_start (l : Launch) (hl0 : l.stackTraces = false) (a0 : Nat) (a1 : Int32) (a2 : Int32) (C : XH) (K : Int32 → XH → Prop) (hs : x_X0_start a0 a1 a2 C K) : xMetX l yX0_start (wsW_ yX0_start cX0_start 4 (some .int) [(0, 41, 42, 21)]) 9 244 1 7 C [.ref a0, .int a1, .int a2] (fun D dT A => xQi D dT K A) xE0 := by
  intro D dT adK adV sz
  refine xEnterW (own := RX0) (Qc := xQi D dT K) (XC := xXC D dT xE0) (by decide) rfl (by rfl) ?_
  intro p e s m args below meth c A ls X hnm hK hA hG hT hI hl
  have hx := X.1
  have hb := X.2.1
  have hts := X.2.2.2.2.1
  have hown := X.2.2.2.2.2.1
  have hl : lv_has ls 4 [(0, .ref a0), (1, .int a1), (2, .int a2)] := hl
  unfold x_X0_start at hs
  refine lv_aload_n hx hb dX0_start_0 rfl (lv_at hl 0 rfl) ?_
  obtain ⟨ad1, ead1, hs⟩ := hs
  refine x_get (v := .ref ad1) X hK hI 0 7 rfl in_X0 rfl q335 rfl (xgr_spec ead1) dX0_start_1 ?_
  refine lv_iload_n hx hb dX0_start_4 rfl (lv_at hl 1 rfl) ?_
  obtain ⟨h3, hs⟩ := hs
  obtain ⟨fh3, h3⟩ := xcl_spec h3
  refine x_goz hA hI (x_runV (As := [.int a1]) (rest := []) X hK hA hG hI h3 (q := (RX4, TX4, 13)) rfl rfl (xet_X4_isChild l ad1 a1 _ _ hs) iX4_isChild q653 q654 q655 q98 ⟨(Nat.le_of_ble_eq_true rfl), (Nat.le_of_ble_eq_true rfl)⟩ rfl hl.1 rfl (Nat.le_of_ble_eq_true rfl) dX0_start_5 ⟨(Nat.le_of_ble_eq_true rfl), (Nat.le_of_ble_eq_true rfl)⟩) (fun r3 C2 H locs br3 hs9 hI => ?_)
  replace hs := hs9
  obtain ⟨k26_5, hk26_5, hs⟩ := jn_ex hs
  have Ek26_5 : ∀ (C5 : XH) (H : Heap) (locs : List Loc) (ls : Array Slot), k26_5 C5 → xI D dT A s.heap C5 H locs → lv_has ls 4 [(0, .ref a0), (1, .int a1), (2, .int a2)] → W p l e (xRm 9 244 1 7) s m args below meth c H locs 0 0 (vx_MQ below (xQi D dT K A) (xXC D dT xE0 A) args s 1 7 A) (F0 m 26 ls []) := by
    intro C5 H locs ls hs hI hl
    rw [hk26_5] at hs
    refine lv_iconst (v := 0) hx hb dX0_start_26 (by decide) ?_
    refine lv_iconst (v := (-1)) hx hb dX0_start_27 (by decide) ?_
    refine xT_gov hA hI (x_runST (As := [.int 0, .int (-1)]) (rest := []) X hK hA hG hI (xet_X0_need l hl0 0 (-1) _ _ _ hs) iX0_need q469 q470 q94 ⟨(Nat.le_of_ble_eq_true rfl), (Nat.le_of_ble_eq_true rfl)⟩ rfl hl.1 rfl (Nat.le_of_ble_eq_true rfl) dX0_start_28 ⟨(Nat.le_of_ble_eq_true rfl), (Nat.le_of_ble_eq_true rfl)⟩) (fun En ce ad13 C14 H locs hs9 hI hce hvm hcl => ?_) (fun C6 H locs hs9 hI => ?_)
    · obtain ⟨rfl, hs0⟩ := hs9
      replace hs := hs0
      refine x_catch (k := 0) (a1 := 0) (a2 := 41) (a3 := 42) (a4 := 21) X hG hT rfl (x_cov rfl) rfl (by decide) q363 (by decide) hce hvm hcl ?_
      refine lv_astore_n (lv' := [(3, .ref ad13), (0, .ref a0), (1, .int a1), (2, .int a2)]) hx hb dX0_start_42 rfl hl (by decide) rfl (fun ls hl => ?_)
      refine lv_aload_n hx hb dX0_start_43 rfl (lv_at hl 1 rfl) ?_
      refine lv_aload_n hx hb dX0_start_44 rfl (lv_at hl 0 rfl) ?_
      obtain ⟨h16, hs⟩ := hs
      obtain ⟨fh16, h16⟩ := xcl_spec h16
      refine x_goi hA hI (x_runV (As := [.ref ad13]) (rest := []) X hK hA hG hI h16 (q := (RX0, TX0, 10)) rfl rfl (xet_X0_refused l a0 ad13 _ _ hs) iX0_refused q538 q540 qs2 q94 ⟨(Nat.le_of_ble_eq_true rfl), (Nat.le_of_ble_eq_true rfl)⟩ rfl hl.1 rfl (Nat.le_of_ble_eq_true rfl) dX0_start_45 ⟨(Nat.le_of_ble_eq_true rfl), (Nat.le_of_ble_eq_true rfl)⟩) (fun r16 C15 H locs hs9 hI => ?_)
      replace hs := hs9
      refine lv_bipush (v := 10) hx hb dX0_start_48 (by decide) ?_
      refine lv_isub hx hb dX0_start_50 ?_
      exact vx_ret (x_reti X hK hI hs (Nat.le_of_ble_eq_true rfl) (Nat.le_of_ble_eq_true rfl) dX0_start_51)
    · replace hs := hs9
      refine lv_aload_n hx hb dX0_start_31 rfl (lv_at hl 0 rfl) ?_
      refine lv_iload_n hx hb dX0_start_32 rfl (lv_at hl 1 rfl) ?_
      refine lv_aload_n hx hb dX0_start_33 rfl (lv_at hl 0 rfl) ?_
      refine lv_iload_n hx hb dX0_start_34 rfl (lv_at hl 2 rfl) ?_
      obtain ⟨h8, hs⟩ := hs
      obtain ⟨fh8, h8⟩ := xcl_spec h8
      refine x_goi hA hI (x_runV (As := [.int a2]) (rest := [.int a1, .ref a0]) X hK hA hG hI h8 (q := (RX0, TX0, 10)) rfl rfl (xet_X0_timeOf l a0 a2 _ _ hs) iX0_timeOf q1193 q1195 qs23 q94 ⟨(Nat.le_of_ble_eq_true rfl), (Nat.le_of_ble_eq_true rfl)⟩ rfl hl.1 rfl (Nat.le_of_ble_eq_true rfl) dX0_start_35 ⟨(Nat.le_of_ble_eq_true rfl), (Nat.le_of_ble_eq_true rfl)⟩) (fun r8 C7 H locs hs9 hI => ?_)
      replace hs := hs9
      obtain ⟨h11, hs⟩ := hs
      obtain ⟨fh11, h11⟩ := xcl_spec h11
      refine x_goi hA hI (x_runV (As := [.int a1, .int r8]) (rest := []) X hK hA hG hI h11 (q := (RX0, TX0, 10)) rfl rfl (xet_X0_startOf l a0 a1 r8 _ _ hs) iX0_startOf q1289 q1291 qs34 q94 ⟨(Nat.le_of_ble_eq_true rfl), (Nat.le_of_ble_eq_true rfl)⟩ rfl hl.1 rfl (Nat.le_of_ble_eq_true rfl) dX0_start_38 ⟨(Nat.le_of_ble_eq_true rfl), (Nat.le_of_ble_eq_true rfl)⟩) (fun r11 C10 H locs hs9 hI => ?_)
      replace hs := hs9
      exact vx_ret (x_reti X hK hI hs (Nat.le_of_ble_eq_true rfl) (Nat.le_of_ble_eq_true rfl) dX0_start_41)
  obtain ⟨k27_19, hk27_19, hs⟩ := jn_ex hs
  have Ek27_19 : ∀ (v18 : Int32) (C19 : XH) (H : Heap) (locs : List Loc) (ls : Array Slot), k27_19 v18 C19 → xI D dT A s.heap C19 H locs → lv_has ls 4 [(0, .ref a0), (1, .int a1), (2, .int a2)] → W p l e (xRm 9 244 1 7) s m args below meth c H locs 0 0 (vx_MQ below (xQi D dT K A) (xXC D dT xE0 A) args s 1 7 A) (F0 m 27 ls [.int v18]) := by
    intro v18 C19 H locs ls hs hI hl
    rw [hk27_19] at hs
    refine lv_iconst (v := (-1)) hx hb dX0_start_27 (by decide) ?_
    refine xT_gov hA hI (x_runST (As := [.int v18, .int (-1)]) (rest := []) X hK hA hG hI (xet_X0_need l hl0 v18 (-1) _ _ _ hs) iX0_need q469 q470 q94 ⟨(Nat.le_of_ble_eq_true rfl), (Nat.le_of_ble_eq_true rfl)⟩ rfl hl.1 rfl (Nat.le_of_ble_eq_true rfl) dX0_start_28 ⟨(Nat.le_of_ble_eq_true rfl), (Nat.le_of_ble_eq_true rfl)⟩) (fun En ce ad27 C28 H locs hs9 hI hce hvm hcl => ?_) (fun C20 H locs hs9 hI => ?_)
    · obtain ⟨rfl, hs0⟩ := hs9
      replace hs := hs0
      refine x_catch (k := 0) (a1 := 0) (a2 := 41) (a3 := 42) (a4 := 21) X hG hT rfl (x_cov rfl) rfl (by decide) q363 (by decide) hce hvm hcl ?_
      refine lv_astore_n (lv' := [(3, .ref ad27), (0, .ref a0), (1, .int a1), (2, .int a2)]) hx hb dX0_start_42 rfl hl (by decide) rfl (fun ls hl => ?_)
      refine lv_aload_n hx hb dX0_start_43 rfl (lv_at hl 1 rfl) ?_
      refine lv_aload_n hx hb dX0_start_44 rfl (lv_at hl 0 rfl) ?_
      obtain ⟨h30, hs⟩ := hs
      obtain ⟨fh30, h30⟩ := xcl_spec h30
      refine x_goi hA hI (x_runV (As := [.ref ad27]) (rest := []) X hK hA hG hI h30 (q := (RX0, TX0, 10)) rfl rfl (xet_X0_refused l a0 ad27 _ _ hs) iX0_refused q538 q540 qs2 q94 ⟨(Nat.le_of_ble_eq_true rfl), (Nat.le_of_ble_eq_true rfl)⟩ rfl hl.1 rfl (Nat.le_of_ble_eq_true rfl) dX0_start_45 ⟨(Nat.le_of_ble_eq_true rfl), (Nat.le_of_ble_eq_true rfl)⟩) (fun r30 C29 H locs hs9 hI => ?_)
      replace hs := hs9
      refine lv_bipush (v := 10) hx hb dX0_start_48 (by decide) ?_
      refine lv_isub hx hb dX0_start_50 ?_
      exact vx_ret (x_reti X hK hI hs (Nat.le_of_ble_eq_true rfl) (Nat.le_of_ble_eq_true rfl) dX0_start_51)
    · replace hs := hs9
      refine lv_aload_n hx hb dX0_start_31 rfl (lv_at hl 0 rfl) ?_
      refine lv_iload_n hx hb dX0_start_32 rfl (lv_at hl 1 rfl) ?_
      refine lv_aload_n hx hb dX0_start_33 rfl (lv_at hl 0 rfl) ?_
      refine lv_iload_n hx hb dX0_start_34 rfl (lv_at hl 2 rfl) ?_
      obtain ⟨h22, hs⟩ := hs
      obtain ⟨fh22, h22⟩ := xcl_spec h22
      refine x_goi hA hI (x_runV (As := [.int a2]) (rest := [.int a1, .ref a0]) X hK hA hG hI h22 (q := (RX0, TX0, 10)) rfl rfl (xet_X0_timeOf l a0 a2 _ _ hs) iX0_timeOf q1193 q1195 qs23 q94 ⟨(Nat.le_of_ble_eq_true rfl), (Nat.le_of_ble_eq_true rfl)⟩ rfl hl.1 rfl (Nat.le_of_ble_eq_true rfl) dX0_start_35 ⟨(Nat.le_of_ble_eq_true rfl), (Nat.le_of_ble_eq_true rfl)⟩) (fun r22 C21 H locs hs9 hI => ?_)
      replace hs := hs9
      obtain ⟨h25, hs⟩ := hs
      obtain ⟨fh25, h25⟩ := xcl_spec h25
      refine x_goi hA hI (x_runV (As := [.int a1, .int r22]) (rest := []) X hK hA hG hI h25 (q := (RX0, TX0, 10)) rfl rfl (xet_X0_startOf l a0 a1 r22 _ _ hs) iX0_startOf q1289 q1291 qs34 q94 ⟨(Nat.le_of_ble_eq_true rfl), (Nat.le_of_ble_eq_true rfl)⟩ rfl hl.1 rfl (Nat.le_of_ble_eq_true rfl) dX0_start_38 ⟨(Nat.le_of_ble_eq_true rfl), (Nat.le_of_ble_eq_true rfl)⟩) (fun r25 C24 H locs hs9 hI => ?_)
      replace hs := hs9
      exact vx_ret (x_reti X hK hI hs (Nat.le_of_ble_eq_true rfl) (Nat.le_of_ble_eq_true rfl) dX0_start_41)
  refine lv_if_eq (tgt := 26) hx hb dX0_start_8 (by decide) (fun c36 => ?_) (fun c36 => ?_)
  · replace hs := ifp c36 hs
    exact Ek26_5 _ _ _ _ hs hI hl
  · replace hs := ifn c36 hs
    refine lv_aload_n hx hb dX0_start_11 rfl (lv_at hl 0 rfl) ?_
    obtain ⟨ad32, ead32, hs⟩ := hs
    refine x_get (v := .ref ad32) X hK hI 0 7 rfl in_X0 rfl q335 rfl (xgr_spec ead32) dX0_start_12 ?_
    refine lv_iload_n hx hb dX0_start_15 rfl (lv_at hl 2 rfl) ?_
    obtain ⟨h34, hs⟩ := hs
    obtain ⟨fh34, h34⟩ := xcl_spec h34
    refine x_goz hA hI (x_runV (As := [.int a2]) (rest := []) X hK hA hG hI h34 (q := (RX4, TX4, 13)) rfl rfl (xet_X4_isChild l ad32 a2 _ _ hs) iX4_isChild q653 q654 q655 q98 ⟨(Nat.le_of_ble_eq_true rfl), (Nat.le_of_ble_eq_true rfl)⟩ rfl hl.1 rfl (Nat.le_of_ble_eq_true rfl) dX0_start_16 ⟨(Nat.le_of_ble_eq_true rfl), (Nat.le_of_ble_eq_true rfl)⟩) (fun r34 C33 H locs br34 hs9 hI => ?_)
    replace hs := hs9
    refine lv_if_eq (tgt := 26) hx hb dX0_start_19 (by decide) (fun c35 => ?_) (fun c35 => ?_)
    · replace hs := ifp c35 hs
      exact Ek26_5 _ _ _ _ hs hI hl
    · replace hs := ifn c35 hs
      refine lv_iconst (v := 1) hx hb dX0_start_22 (by decide) ?_
      refine lv_goto (tgt := 27) hx hb dX0_start_23 (by decide) ?_
      exact Ek27_19 _ _ _ _ _ hs hI hl
def x_X0_atOnce_l29 (K : Int32 → XH → Prop) (a0 : Nat) (r10 : Int32) : Nat → Int32 → Int32 → XH → Prop
  | 0, _, _, _ => False
  | n29_14 + 1, x12, x13, C14 => obd (xgr C14 (xis 0) a0 7) (fun ad16 => obd (xgi C14 (xis 4) ad16 0) (fun v17 => (if v17 ≤ x13 then K x12 C14 else (xcl C14 a0 = some 0 ∧ x_X0_startOf a0 x13 r10 C14 (fun r19 C18 => (if r19 = (-1) then K (-1) C18 else x_X0_atOnce_l29 K a0 r10 n29_14 (x12 + r19) (x13 + 1) C18))))))
theorem x_X0_atOnce_l29_s (K : Int32 → XH → Prop) (a0 : Nat) (r10 : Int32) (n29_14 : Nat) (x12 : Int32) (x13 : Int32) (C14 : XH) : x_X0_atOnce_l29 K a0 r10 (n29_14 + 1) x12 x13 C14 = (obd (xgr C14 (xis 0) a0 7) (fun ad16 => obd (xgi C14 (xis 4) ad16 0) (fun v17 => (if v17 ≤ x13 then K x12 C14 else (xcl C14 a0 = some 0 ∧ x_X0_startOf a0 x13 r10 C14 (fun r19 C18 => (if r19 = (-1) then K (-1) C18 else x_X0_atOnce_l29 K a0 r10 n29_14 (x12 + r19) (x13 + 1) C18))))))) := rfl
def x_X0_atOnce (a0 : Nat) (C : XH) (K : Int32 → XH → Prop) : Prop := obd (xgr C (xis 0) a0 7) (fun ad1 => obd (xgi C (xis 4) ad1 0) (fun v2 => (if v2 = 0 then K 0 C else (xcl C a0 = some 0 ∧ x_X0_all a0 C (fun r4 C3 => (xcl C3 a0 = some 0 ∧ x_X0_winnerOf a0 r4 C3 (fun r7 C6 => (xcl C6 a0 = some 0 ∧ x_X0_timeOf a0 r7 C6 (fun r10 C9 => x_X0_atOnce_l29 K a0 r10 NF 0 0 C9)))))))))
theorem iX0_atOnce : xInf yX0_atOnce cX0_atOnce 5 (some .int) 0 := ⟨q1296, by decide +kernel⟩
set_option maxHeartbeats 4000000 in
theorem xet_X0_atOnce (l : Launch) (a0 : Nat) (C : XH) (K : Int32 → XH → Prop) (hs : x_X0_atOnce a0 C K) : xMeti l yX0_atOnce (ws_ yX0_atOnce cX0_atOnce 5 (some .int)) 10 244 0 0 C [.ref a0] K := by
  intro D dT adK adV sz
  refine xEnter (own := RX0) (Qc := xQi D dT K) (by decide) rfl (by rfl) ?_
  intro p e s m args below meth c A ls X hnm hK hA hG hI hl
  have hx := X.1
  have hb := X.2.1
  have hts := X.2.2.2.2.1
  have hown := X.2.2.2.2.2.1
  have hl : lv_has ls 5 [(0, .ref a0)] := hl
  unfold x_X0_atOnce at hs
  refine lv_iconst (v := 0) hx hb dX0_atOnce_0 (by decide) ?_
  refine lv_istore_n (lv' := [(1, .int 0), (0, .ref a0)]) hx hb dX0_atOnce_1 rfl hl (by decide) rfl (fun ls hl => ?_)
  refine lv_aload_n hx hb dX0_atOnce_2 rfl (lv_at hl 1 rfl) ?_
  obtain ⟨ad1, ead1, hs⟩ := hs
  refine x_get (v := .ref ad1) X hK hI 0 7 rfl in_X0 rfl q335 rfl (xgr_spec ead1) dX0_atOnce_3 ?_
  obtain ⟨v2, ev2, hs⟩ := hs
  refine x_get (v := .int v2) X hK hI 4 0 rfl in_X4 rfl q252 rfl (xgi_spec ev2) dX0_atOnce_6 ?_
  refine lv_if_ne (tgt := 14) hx hb dX0_atOnce_9 (by decide) (fun c22 => ?_) (fun c22 => ?_)
  · replace hs := ifn c22 hs
    refine lv_aload_n hx hb dX0_atOnce_14 rfl (lv_at hl 1 rfl) ?_
    refine lv_aload_n hx hb dX0_atOnce_15 rfl (lv_at hl 1 rfl) ?_
    refine lv_aload_n hx hb dX0_atOnce_16 rfl (lv_at hl 1 rfl) ?_
    obtain ⟨h4, hs⟩ := hs
    obtain ⟨fh4, h4⟩ := xcl_spec h4
    refine x_goi hA hI (x_runV (As := []) (rest := [.ref a0, .ref a0]) X hK hA hG hI h4 (q := (RX0, TX0, 10)) rfl rfl (xet_X0_all l a0 _ _ hs) iX0_all q1214 q1216 qs25 q94 ⟨(Nat.le_of_ble_eq_true rfl), (Nat.le_of_ble_eq_true rfl)⟩ rfl hl.1 rfl (Nat.le_of_ble_eq_true rfl) dX0_atOnce_17 ⟨(Nat.le_of_ble_eq_true rfl), (Nat.le_of_ble_eq_true rfl)⟩) (fun r4 C3 H locs hs9 hI => ?_)
    replace hs := hs9
    obtain ⟨h7, hs⟩ := hs
    obtain ⟨fh7, h7⟩ := xcl_spec h7
    refine x_goi hA hI (x_runV (As := [.int r4]) (rest := [.ref a0]) X hK hA hG hI h7 (q := (RX0, TX0, 10)) rfl rfl (xet_X0_winnerOf l a0 r4 _ _ hs) iX0_winnerOf q1218 q1220 qs26 q94 ⟨(Nat.le_of_ble_eq_true rfl), (Nat.le_of_ble_eq_true rfl)⟩ rfl hl.1 rfl (Nat.le_of_ble_eq_true rfl) dX0_atOnce_20 ⟨(Nat.le_of_ble_eq_true rfl), (Nat.le_of_ble_eq_true rfl)⟩) (fun r7 C6 H locs hs9 hI => ?_)
    replace hs := hs9
    obtain ⟨h10, hs⟩ := hs
    obtain ⟨fh10, h10⟩ := xcl_spec h10
    refine x_goi hA hI (x_runV (As := [.int r7]) (rest := []) X hK hA hG hI h10 (q := (RX0, TX0, 10)) rfl rfl (xet_X0_timeOf l a0 r7 _ _ hs) iX0_timeOf q1193 q1195 qs23 q94 ⟨(Nat.le_of_ble_eq_true rfl), (Nat.le_of_ble_eq_true rfl)⟩ rfl hl.1 rfl (Nat.le_of_ble_eq_true rfl) dX0_atOnce_23 ⟨(Nat.le_of_ble_eq_true rfl), (Nat.le_of_ble_eq_true rfl)⟩) (fun r10 C9 H locs hs9 hI => ?_)
    replace hs := hs9
    refine lv_istore_n (lv' := [(2, .int r10), (1, .int 0), (0, .ref a0)]) hx hb dX0_atOnce_26 rfl hl (by decide) rfl (fun ls hl => ?_)
    refine lv_iconst (v := 0) hx hb dX0_atOnce_27 (by decide) ?_
    refine lv_istore_n (lv' := [(3, .int 0), (2, .int r10), (1, .int 0), (0, .ref a0)]) hx hb dX0_atOnce_28 rfl hl (by decide) rfl (fun ls hl => ?_)
    have Lx_X0_atOnce_l29 : ∀ (n29_14 : Nat) (x12 : Int32) (x13 : Int32) (C14 : XH) (H : Heap) (locs : List Loc) (ls : Array Slot), x_X0_atOnce_l29 K a0 r10 n29_14 x12 x13 C14 → xI D dT A s.heap C14 H locs → lv_has ls 5 [(0, .ref a0), (1, .int x12), (2, .int r10), (3, .int x13)] → W p l e (xRm 10 244 0 0) s m args below meth c H locs 0 0 (MQ below (xQi D dT K A) args s 0 0 A) (F0 m 29 ls []) := by
      intro n29_14
      induction n29_14 with
      | zero =>
        intro x12 x13 C14 H locs ls hs
        exact False.elim hs
      | succ n29_14 ihx_X0_atOnce_l29 =>
        intro x12 x13 C14 H locs ls hs hI hl
        rw [x_X0_atOnce_l29_s] at hs
        refine lv_iload_n hx hb dX0_atOnce_29 rfl (lv_at hl 3 rfl) ?_
        refine lv_aload_n hx hb dX0_atOnce_30 rfl (lv_at hl 0 rfl) ?_
        obtain ⟨ad16, ead16, hs⟩ := hs
        refine x_get (v := .ref ad16) X hK hI 0 7 rfl in_X0 rfl q335 rfl (xgr_spec ead16) dX0_atOnce_31 ?_
        obtain ⟨v17, ev17, hs⟩ := hs
        refine x_get (v := .int v17) X hK hI 4 0 rfl in_X4 rfl q252 rfl (xgi_spec ev17) dX0_atOnce_34 ?_
        refine lv_icmp_ge (tgt := 67) hx hb dX0_atOnce_37 (by decide) (fun c21 => ?_) (fun c21 => ?_)
        · replace hs := ifp c21 hs
          refine lv_iload_n hx hb dX0_atOnce_67 rfl (lv_at hl 1 rfl) ?_
          exact x_reti X hK hI hs (Nat.le_of_ble_eq_true rfl) (Nat.le_of_ble_eq_true rfl) dX0_atOnce_68
        · replace hs := ifn c21 hs
          refine lv_aload_n hx hb dX0_atOnce_40 rfl (lv_at hl 0 rfl) ?_
          refine lv_iload_n hx hb dX0_atOnce_41 rfl (lv_at hl 3 rfl) ?_
          refine lv_iload_n hx hb dX0_atOnce_42 rfl (lv_at hl 2 rfl) ?_
          obtain ⟨h19, hs⟩ := hs
          obtain ⟨fh19, h19⟩ := xcl_spec h19
          refine x_goi hA hI (x_runV (As := [.int x13, .int r10]) (rest := []) X hK hA hG hI h19 (q := (RX0, TX0, 10)) rfl rfl (xet_X0_startOf l a0 x13 r10 _ _ hs) iX0_startOf q1289 q1291 qs34 q94 ⟨(Nat.le_of_ble_eq_true rfl), (Nat.le_of_ble_eq_true rfl)⟩ rfl hl.1 rfl (Nat.le_of_ble_eq_true rfl) dX0_atOnce_43 ⟨(Nat.le_of_ble_eq_true rfl), (Nat.le_of_ble_eq_true rfl)⟩) (fun r19 C18 H locs hs9 hI => ?_)
          replace hs := hs9
          refine lv_istore (lv' := [(4, .int r19), (0, .ref a0), (1, .int x12), (2, .int r10), (3, .int x13)]) hx hb dX0_atOnce_46 hl (by decide) rfl (fun ls hl => ?_)
          refine lv_iload hx hb dX0_atOnce_48 (lv_at hl 0 rfl) ?_
          refine lv_iconst (v := (-1)) hx hb dX0_atOnce_50 (by decide) ?_
          refine lv_icmp_ne (tgt := 56) hx hb dX0_atOnce_51 (by decide) (fun c20 => ?_) (fun c20 => ?_)
          · replace hs := ifn c20 hs
            refine lv_iload_n hx hb dX0_atOnce_56 rfl (lv_at hl 2 rfl) ?_
            refine lv_iload hx hb dX0_atOnce_57 (lv_at hl 0 rfl) ?_
            refine lv_iadd hx hb dX0_atOnce_59 ?_
            refine lv_istore_n (lv' := [(1, .int (x12 + r19)), (4, .int r19), (0, .ref a0), (2, .int r10), (3, .int x13)]) hx hb dX0_atOnce_60 rfl hl (by decide) rfl (fun ls hl => ?_)
            refine lv_iinc (v := (x13 + 1)) (lv' := [(3, .int (x13 + 1)), (1, .int (x12 + r19)), (4, .int r19), (0, .ref a0), (2, .int r10)]) hx hb dX0_atOnce_61 hl (k := 4) rfl (congrArg (fun z => x13 + z) (show Int32.ofInt (1) = 1 by decide)) (by decide) rfl (fun ls hl => ?_)
            refine lv_goto (tgt := 29) hx hb dX0_atOnce_64 (by decide) ?_
            exact ihx_X0_atOnce_l29 _ _ _ _ _ _ hs hI (lv_sub hl [3, 1, 4, 0] rfl)
          · replace hs := ifp c20 hs
            refine lv_iconst (v := (-1)) hx hb dX0_atOnce_54 (by decide) ?_
            exact x_reti X hK hI hs (Nat.le_of_ble_eq_true rfl) (Nat.le_of_ble_eq_true rfl) dX0_atOnce_55
    exact Lx_X0_atOnce_l29 NF _ _ _ _ _ _ hs hI (lv_sub hl [3, 2, 1, 0] rfl)
  · replace hs := ifp c22 hs
    refine lv_iload_n hx hb dX0_atOnce_12 rfl (lv_at hl 0 rfl) ?_
    exact x_reti X hK hI hs (Nat.le_of_ble_eq_true rfl) (Nat.le_of_ble_eq_true rfl) dX0_atOnce_13
def x_X0_heatsOf_l12 (K : Int32 → XH → Prop) (a0 : Nat) (a1 : Int32) (a2 : Int32) (a3 : Nat) : Nat → Int32 → Int32 → Int32 → Int32 → XH → Prop
  | 0, _, _, _, _, _ => False
  | n12_5 + 1, x1, x2, x3, x4, C5 => obd (xgr C5 (xis 0) a0 7) (fun ad7 => obd (xgi C5 (xis 4) ad7 0) (fun v8 => (if v8 ≤ x4 then K x1 C5 else jn (fun (x9 : Int32) (x10 : Int32) => jn ((xcl C5 a0 = some 0 ∧ x_X0_winnerOf a0 x9 C5 (fun r12 C11 => obd (xai C11 0 a3 0) (fun v14 => obd (xsi C11 a3 0 (v14 + 1)) (fun C15 => x_X0_heatsOf_l12 K a0 a1 a2 a3 n12_5 (x1 ||| (1 <<< (r12 &&& 31))) 0 0 (x4 + 1) C15))))) (fun k65_10 => jn (fun (x16 : Int32) (x17 : Int32) (x18 : Int32) (C19 : XH) => x_X0_heatsOf_l12 K a0 a1 a2 a3 n12_5 x16 x17 x18 (x4 + 1) C19) (fun k91_19 => (if x10 = a2 then k65_10 else (if x9 = 0 then k91_19 x1 x9 x10 C5 else (if (a1 >>> ((x4 + 1) &&& 31)) = 0 then k65_10 else k91_19 x1 x9 x10 C5)))))) (fun k45_10 => (if ((a1 >>> (x4 &&& 31)) &&& 1) = 0 then k45_10 x2 x3 else k45_10 (x2 ||| (1 <<< (x4 &&& 31))) (x3 + 1))))))
theorem x_X0_heatsOf_l12_s (K : Int32 → XH → Prop) (a0 : Nat) (a1 : Int32) (a2 : Int32) (a3 : Nat) (n12_5 : Nat) (x1 : Int32) (x2 : Int32) (x3 : Int32) (x4 : Int32) (C5 : XH) : x_X0_heatsOf_l12 K a0 a1 a2 a3 (n12_5 + 1) x1 x2 x3 x4 C5 = (obd (xgr C5 (xis 0) a0 7) (fun ad7 => obd (xgi C5 (xis 4) ad7 0) (fun v8 => (if v8 ≤ x4 then K x1 C5 else jn (fun (x9 : Int32) (x10 : Int32) => jn ((xcl C5 a0 = some 0 ∧ x_X0_winnerOf a0 x9 C5 (fun r12 C11 => obd (xai C11 0 a3 0) (fun v14 => obd (xsi C11 a3 0 (v14 + 1)) (fun C15 => x_X0_heatsOf_l12 K a0 a1 a2 a3 n12_5 (x1 ||| (1 <<< (r12 &&& 31))) 0 0 (x4 + 1) C15))))) (fun k65_10 => jn (fun (x16 : Int32) (x17 : Int32) (x18 : Int32) (C19 : XH) => x_X0_heatsOf_l12 K a0 a1 a2 a3 n12_5 x16 x17 x18 (x4 + 1) C19) (fun k91_19 => (if x10 = a2 then k65_10 else (if x9 = 0 then k91_19 x1 x9 x10 C5 else (if (a1 >>> ((x4 + 1) &&& 31)) = 0 then k65_10 else k91_19 x1 x9 x10 C5)))))) (fun k45_10 => (if ((a1 >>> (x4 &&& 31)) &&& 1) = 0 then k45_10 x2 x3 else k45_10 (x2 ||| (1 <<< (x4 &&& 31))) (x3 + 1))))))) := rfl
def x_X0_heatsOf (a0 : Nat) (a1 : Int32) (a2 : Int32) (a3 : Nat) (C : XH) (K : Int32 → XH → Prop) : Prop := x_X0_heatsOf_l12 K a0 a1 a2 a3 NF 0 0 0 0 C
theorem iX0_heatsOf : xInf yX0_heatsOf cX0_heatsOf 8 (some .int) 3 := ⟨q1310, by decide +kernel⟩
set_option maxHeartbeats 4000000 in
theorem xet_X0_heatsOf (l : Launch) (a0 : Nat) (a1 : Int32) (a2 : Int32) (a3 : Nat) (C : XH) (K : Int32 → XH → Prop) (hs : x_X0_heatsOf a0 a1 a2 a3 C K) : xMeti l yX0_heatsOf (ws_ yX0_heatsOf cX0_heatsOf 8 (some .int)) 10 228 0 0 C [.ref a0, .int a1, .int a2, .ref a3] K := by
  intro D dT adK adV sz
  refine xEnter (own := RX0) (Qc := xQi D dT K) (by decide) rfl (by rfl) ?_
  intro p e s m args below meth c A ls X hnm hK hA hG hI hl
  have hx := X.1
  have hb := X.2.1
  have hts := X.2.2.2.2.1
  have hown := X.2.2.2.2.2.1
  have hl : lv_has ls 8 [(0, .ref a0), (1, .int a1), (2, .int a2), (3, .ref a3)] := hl
  unfold x_X0_heatsOf at hs
  refine lv_iconst (v := 0) hx hb dX0_heatsOf_0 (by decide) ?_
  refine lv_istore (lv' := [(4, .int 0), (0, .ref a0), (1, .int a1), (2, .int a2), (3, .ref a3)]) hx hb dX0_heatsOf_1 hl (by decide) rfl (fun ls hl => ?_)
  refine lv_iconst (v := 0) hx hb dX0_heatsOf_3 (by decide) ?_
  refine lv_istore (lv' := [(5, .int 0), (4, .int 0), (0, .ref a0), (1, .int a1), (2, .int a2), (3, .ref a3)]) hx hb dX0_heatsOf_4 hl (by decide) rfl (fun ls hl => ?_)
  refine lv_iconst (v := 0) hx hb dX0_heatsOf_6 (by decide) ?_
  refine lv_istore (lv' := [(6, .int 0), (5, .int 0), (4, .int 0), (0, .ref a0), (1, .int a1), (2, .int a2), (3, .ref a3)]) hx hb dX0_heatsOf_7 hl (by decide) rfl (fun ls hl => ?_)
  refine lv_iconst (v := 0) hx hb dX0_heatsOf_9 (by decide) ?_
  refine lv_istore (lv' := [(7, .int 0), (6, .int 0), (5, .int 0), (4, .int 0), (0, .ref a0), (1, .int a1), (2, .int a2), (3, .ref a3)]) hx hb dX0_heatsOf_10 hl (by decide) rfl (fun ls hl => ?_)
  have Lx_X0_heatsOf_l12 : ∀ (n12_5 : Nat) (x1 : Int32) (x2 : Int32) (x3 : Int32) (x4 : Int32) (C5 : XH) (H : Heap) (locs : List Loc) (ls : Array Slot), x_X0_heatsOf_l12 K a0 a1 a2 a3 n12_5 x1 x2 x3 x4 C5 → xI D dT A s.heap C5 H locs → lv_has ls 8 [(0, .ref a0), (1, .int a1), (2, .int a2), (3, .ref a3), (4, .int x1), (5, .int x2), (6, .int x3), (7, .int x4)] → W p l e (xRm 10 228 0 0) s m args below meth c H locs 0 0 (MQ below (xQi D dT K A) args s 0 0 A) (F0 m 12 ls []) := by
    intro n12_5
    induction n12_5 with
    | zero =>
      intro x1 x2 x3 x4 C5 H locs ls hs
      exact False.elim hs
    | succ n12_5 ihx_X0_heatsOf_l12 =>
      intro x1 x2 x3 x4 C5 H locs ls hs hI hl
      rw [x_X0_heatsOf_l12_s] at hs
      refine lv_iload hx hb dX0_heatsOf_12 (lv_at hl 7 rfl) ?_
      refine lv_aload_n hx hb dX0_heatsOf_14 rfl (lv_at hl 0 rfl) ?_
      obtain ⟨ad7, ead7, hs⟩ := hs
      refine x_get (v := .ref ad7) X hK hI 0 7 rfl in_X0 rfl q335 rfl (xgr_spec ead7) dX0_heatsOf_15 ?_
      obtain ⟨v8, ev8, hs⟩ := hs
      refine x_get (v := .int v8) X hK hI 4 0 rfl in_X4 rfl q252 rfl (xgi_spec ev8) dX0_heatsOf_18 ?_
      refine lv_icmp_ge (tgt := 97) hx hb dX0_heatsOf_21 (by decide) (fun c23 => ?_) (fun c23 => ?_)
      · replace hs := ifp c23 hs
        refine lv_iload hx hb dX0_heatsOf_97 (lv_at hl 4 rfl) ?_
        exact x_reti X hK hI hs (Nat.le_of_ble_eq_true rfl) (Nat.le_of_ble_eq_true rfl) dX0_heatsOf_99
      · replace hs := ifn c23 hs
        refine lv_iload_n hx hb dX0_heatsOf_24 rfl (lv_at hl 1 rfl) ?_
        refine lv_iload hx hb dX0_heatsOf_25 (lv_at hl 7 rfl) ?_
        refine lv_ishr hx hb dX0_heatsOf_27 ?_
        refine lv_iconst (v := 1) hx hb dX0_heatsOf_28 (by decide) ?_
        refine lv_iand hx hb dX0_heatsOf_29 ?_
        obtain ⟨k45_10, hk45_10, hs⟩ := jn_ex hs
        have Ek45_10 : ∀ (x9 : Int32) (x10 : Int32) (H : Heap) (locs : List Loc) (ls : Array Slot), k45_10 x9 x10 → xI D dT A s.heap C5 H locs → lv_has ls 8 [(0, .ref a0), (1, .int a1), (2, .int a2), (3, .ref a3), (4, .int x1), (5, .int x9), (6, .int x10), (7, .int x4)] → W p l e (xRm 10 228 0 0) s m args below meth c H locs 0 0 (MQ below (xQi D dT K A) args s 0 0 A) (F0 m 45 ls []) := by
          intro x9 x10 H locs ls hs hI hl
          rw [hk45_10] at hs
          refine lv_iload hx hb dX0_heatsOf_45 (lv_at hl 6 rfl) ?_
          refine lv_iload_n hx hb dX0_heatsOf_47 rfl (lv_at hl 2 rfl) ?_
          obtain ⟨k65_10, hk65_10, hs⟩ := jn_ex hs
          have Ek65_10 : ∀ (H : Heap) (locs : List Loc) (ls : Array Slot), k65_10 → xI D dT A s.heap C5 H locs → lv_has ls 8 [(0, .ref a0), (1, .int a1), (2, .int a2), (3, .ref a3), (4, .int x1), (5, .int x9), (7, .int x4)] → W p l e (xRm 10 228 0 0) s m args below meth c H locs 0 0 (MQ below (xQi D dT K A) args s 0 0 A) (F0 m 65 ls []) := by
            intro H locs ls hs hI hl
            rw [hk65_10] at hs
            refine lv_iload hx hb dX0_heatsOf_65 (lv_at hl 4 rfl) ?_
            refine lv_iconst (v := 1) hx hb dX0_heatsOf_67 (by decide) ?_
            refine lv_aload_n hx hb dX0_heatsOf_68 rfl (lv_at hl 0 rfl) ?_
            refine lv_iload hx hb dX0_heatsOf_69 (lv_at hl 5 rfl) ?_
            obtain ⟨h12, hs⟩ := hs
            obtain ⟨fh12, h12⟩ := xcl_spec h12
            refine x_goi hA hI (x_runV (As := [.int x9]) (rest := [.int 1, .int x1]) X hK hA hG hI h12 (q := (RX0, TX0, 10)) rfl rfl (xet_X0_winnerOf l a0 x9 _ _ hs) iX0_winnerOf q1218 q1220 qs26 q94 ⟨(Nat.le_of_ble_eq_true rfl), (Nat.le_of_ble_eq_true rfl)⟩ rfl hl.1 rfl (Nat.le_of_ble_eq_true rfl) dX0_heatsOf_71 ⟨(Nat.le_of_ble_eq_true rfl), (Nat.le_of_ble_eq_true rfl)⟩) (fun r12 C11 H locs hs9 hI => ?_)
            replace hs := hs9
            refine lv_ishl hx hb dX0_heatsOf_74 ?_
            refine lv_ior hx hb dX0_heatsOf_75 ?_
            refine lv_istore (lv' := [(4, .int (x1 ||| (1 <<< (r12 &&& 31)))), (0, .ref a0), (1, .int a1), (2, .int a2), (3, .ref a3), (5, .int x9), (7, .int x4)]) hx hb dX0_heatsOf_76 hl (by decide) rfl (fun ls hl => ?_)
            refine lv_aload_n hx hb dX0_heatsOf_78 rfl (lv_at hl 4 rfl) ?_
            refine lv_iconst (v := 0) hx hb dX0_heatsOf_79 (by decide) ?_
            refine lv_dup2_11 hx hb dX0_heatsOf_80 rfl rfl ?_
            obtain ⟨v14, ev14, hs⟩ := hs
            refine x_iald X hK hI ev14 dX0_heatsOf_81 ?_
            refine lv_iconst (v := 1) hx hb dX0_heatsOf_82 (by decide) ?_
            refine lv_iadd hx hb dX0_heatsOf_83 ?_
            obtain ⟨C15, eC15, hs⟩ := hs
            refine x_iast X hK hI eC15 dX0_heatsOf_84 (fun H locs hI => ?_)
            refine lv_iconst (v := 0) hx hb dX0_heatsOf_85 (by decide) ?_
            refine lv_istore (lv' := [(5, .int 0), (4, .int (x1 ||| (1 <<< (r12 &&& 31)))), (0, .ref a0), (1, .int a1), (2, .int a2), (3, .ref a3), (7, .int x4)]) hx hb dX0_heatsOf_86 hl (by decide) rfl (fun ls hl => ?_)
            refine lv_iconst (v := 0) hx hb dX0_heatsOf_88 (by decide) ?_
            refine lv_istore (lv' := [(6, .int 0), (5, .int 0), (4, .int (x1 ||| (1 <<< (r12 &&& 31)))), (0, .ref a0), (1, .int a1), (2, .int a2), (3, .ref a3), (7, .int x4)]) hx hb dX0_heatsOf_89 hl (by decide) rfl (fun ls hl => ?_)
            refine lv_iinc (v := (x4 + 1)) (lv' := [(7, .int (x4 + 1)), (6, .int 0), (5, .int 0), (4, .int (x1 ||| (1 <<< (r12 &&& 31)))), (0, .ref a0), (1, .int a1), (2, .int a2), (3, .ref a3)]) hx hb dX0_heatsOf_91 hl (k := 7) rfl (congrArg (fun z => x4 + z) (show Int32.ofInt (1) = 1 by decide)) (by decide) rfl (fun ls hl => ?_)
            refine lv_goto (tgt := 12) hx hb dX0_heatsOf_94 (by decide) ?_
            exact ihx_X0_heatsOf_l12 _ _ _ _ _ _ _ _ hs hI (lv_sub hl [4, 5, 6, 7, 3, 2, 1, 0] rfl)
          obtain ⟨k91_19, hk91_19, hs⟩ := jn_ex hs
          have Ek91_19 : ∀ (x16 : Int32) (x17 : Int32) (x18 : Int32) (C19 : XH) (H : Heap) (locs : List Loc) (ls : Array Slot), k91_19 x16 x17 x18 C19 → xI D dT A s.heap C19 H locs → lv_has ls 8 [(0, .ref a0), (1, .int a1), (2, .int a2), (3, .ref a3), (4, .int x16), (5, .int x17), (6, .int x18), (7, .int x4)] → W p l e (xRm 10 228 0 0) s m args below meth c H locs 0 0 (MQ below (xQi D dT K A) args s 0 0 A) (F0 m 91 ls []) := by
            intro x16 x17 x18 C19 H locs ls hs hI hl
            rw [hk91_19] at hs
            refine lv_iinc (v := (x4 + 1)) (lv' := [(7, .int (x4 + 1)), (0, .ref a0), (1, .int a1), (2, .int a2), (3, .ref a3), (4, .int x16), (5, .int x17), (6, .int x18)]) hx hb dX0_heatsOf_91 hl (k := 7) rfl (congrArg (fun z => x4 + z) (show Int32.ofInt (1) = 1 by decide)) (by decide) rfl (fun ls hl => ?_)
            refine lv_goto (tgt := 12) hx hb dX0_heatsOf_94 (by decide) ?_
            exact ihx_X0_heatsOf_l12 _ _ _ _ _ _ _ _ hs hI (lv_sub hl [1, 2, 3, 4, 5, 6, 7, 0] rfl)
          refine lv_icmp_eq (tgt := 65) hx hb dX0_heatsOf_48 (by decide) (fun c21 => ?_) (fun c21 => ?_)
          · replace hs := ifp c21 hs
            exact Ek65_10 _ _ _ hs hI (lv_sub hl [0, 1, 2, 3, 4, 5, 7] rfl)
          · replace hs := ifn c21 hs
            refine lv_iload hx hb dX0_heatsOf_51 (lv_at hl 5 rfl) ?_
            refine lv_if_eq (tgt := 91) hx hb dX0_heatsOf_53 (by decide) (fun c20 => ?_) (fun c20 => ?_)
            · replace hs := ifp c20 hs
              exact Ek91_19 _ _ _ _ _ _ _ hs hI hl
            · replace hs := ifn c20 hs
              refine lv_iload_n hx hb dX0_heatsOf_56 rfl (lv_at hl 1 rfl) ?_
              refine lv_iload hx hb dX0_heatsOf_57 (lv_at hl 7 rfl) ?_
              refine lv_iconst (v := 1) hx hb dX0_heatsOf_59 (by decide) ?_
              refine lv_iadd hx hb dX0_heatsOf_60 ?_
              refine lv_ishr hx hb dX0_heatsOf_61 ?_
              refine lv_if_ne (tgt := 91) hx hb dX0_heatsOf_62 (by decide) (fun c19 => ?_) (fun c19 => ?_)
              · replace hs := ifn c19 hs
                exact Ek91_19 _ _ _ _ _ _ _ hs hI hl
              · replace hs := ifp c19 hs
                exact Ek65_10 _ _ _ hs hI (lv_sub hl [0, 1, 2, 3, 4, 5, 7] rfl)
        refine lv_if_eq (tgt := 45) hx hb dX0_heatsOf_30 (by decide) (fun c22 => ?_) (fun c22 => ?_)
        · replace hs := ifp c22 hs
          exact Ek45_10 _ _ _ _ _ hs hI hl
        · replace hs := ifn c22 hs
          refine lv_iload hx hb dX0_heatsOf_33 (lv_at hl 5 rfl) ?_
          refine lv_iconst (v := 1) hx hb dX0_heatsOf_35 (by decide) ?_
          refine lv_iload hx hb dX0_heatsOf_36 (lv_at hl 7 rfl) ?_
          refine lv_ishl hx hb dX0_heatsOf_38 ?_
          refine lv_ior hx hb dX0_heatsOf_39 ?_
          refine lv_istore (lv' := [(5, .int (x2 ||| (1 <<< (x4 &&& 31)))), (0, .ref a0), (1, .int a1), (2, .int a2), (3, .ref a3), (4, .int x1), (6, .int x3), (7, .int x4)]) hx hb dX0_heatsOf_40 hl (by decide) rfl (fun ls hl => ?_)
          refine lv_iinc (v := (x3 + 1)) (lv' := [(6, .int (x3 + 1)), (5, .int (x2 ||| (1 <<< (x4 &&& 31)))), (0, .ref a0), (1, .int a1), (2, .int a2), (3, .ref a3), (4, .int x1), (7, .int x4)]) hx hb dX0_heatsOf_42 hl (k := 6) rfl (congrArg (fun z => x3 + z) (show Int32.ofInt (1) = 1 by decide)) (by decide) rfl (fun ls hl => ?_)
          exact Ek45_10 _ _ _ _ _ hs hI (lv_sub hl [2, 3, 4, 5, 6, 1, 0, 7] rfl)
  exact Lx_X0_heatsOf_l12 NF _ _ _ _ _ _ _ _ hs hI (lv_sub hl [4, 5, 6, 7, 3, 2, 1, 0] rfl)
