set_option maxRecDepth 100000
def x_X0_meant_l48 (a0 : Nat) (ad5 : Nat) (x17 : Int32) (k86_20 : XH → Prop) (k77_22 : XH → Prop) : Nat → Int32 → XH → Prop
  | 0, _, _ => False
  | n48_27 + 1, x26, C27 => obd (xgr C27 (xis 0) a0 7) (fun ad29 => obd (xgi C27 (xis 4) ad29 0) (fun v30 => (if v30 ≤ x26 then k86_20 C27 else vd_X8_asInt ad5 x26 C27 (fun r32 C31 => (xcl C31 a0 = some 0 ∧ x_X0_timeAs a0 x26 x17 C31 (fun r34 C33 => (if r32 = r34 then x_X0_meant_l48 a0 ad5 x17 k86_20 k77_22 n48_27 (x26 + 1) C33 else k77_22 C33)))))))
theorem x_X0_meant_l48_s (a0 : Nat) (ad5 : Nat) (x17 : Int32) (k86_20 : XH → Prop) (k77_22 : XH → Prop) (n48_27 : Nat) (x26 : Int32) (C27 : XH) : x_X0_meant_l48 a0 ad5 x17 k86_20 k77_22 (n48_27 + 1) x26 C27 = (obd (xgr C27 (xis 0) a0 7) (fun ad29 => obd (xgi C27 (xis 4) ad29 0) (fun v30 => (if v30 ≤ x26 then k86_20 C27 else vd_X8_asInt ad5 x26 C27 (fun r32 C31 => (xcl C31 a0 = some 0 ∧ x_X0_timeAs a0 x26 x17 C31 (fun r34 C33 => (if r32 = r34 then x_X0_meant_l48 a0 ad5 x17 k86_20 k77_22 n48_27 (x26 + 1) C33 else k77_22 C33)))))))) := rfl
def x_X0_meant_l38 (a0 : Nat) (ad5 : Nat) (k99_14 : Int32 → XH → Prop) : Nat → Int32 → Int32 → XH → Prop
  | 0, _, _, _ => False
  | n38_18 + 1, x16, x17, C18 => (if 7 ≤ x17 then k99_14 x16 C18 else jn (fun (C20 : XH) => x_X0_meant_l38 a0 ad5 k99_14 n38_18 (x16 ||| (1 <<< (x17 &&& 31))) (x17 + 1) C20) (fun k86_20 => jn (fun (C22 : XH) => x_X0_meant_l38 a0 ad5 k99_14 n38_18 x16 (x17 + 1) C22) (fun k77_22 => jn (fun (C24 : XH) => x_X0_meant_l38 a0 ad5 k99_14 n38_18 x16 (x17 + 1) C24) (fun k93_24 => x_X0_meant_l48 a0 ad5 x17 k86_20 k77_22 NF9 0 C18))))
theorem x_X0_meant_l38_s (a0 : Nat) (ad5 : Nat) (k99_14 : Int32 → XH → Prop) (n38_18 : Nat) (x16 : Int32) (x17 : Int32) (C18 : XH) : x_X0_meant_l38 a0 ad5 k99_14 (n38_18 + 1) x16 x17 C18 = ((if 7 ≤ x17 then k99_14 x16 C18 else jn (fun (C20 : XH) => x_X0_meant_l38 a0 ad5 k99_14 n38_18 (x16 ||| (1 <<< (x17 &&& 31))) (x17 + 1) C20) (fun k86_20 => jn (fun (C22 : XH) => x_X0_meant_l38 a0 ad5 k99_14 n38_18 x16 (x17 + 1) C22) (fun k77_22 => jn (fun (C24 : XH) => x_X0_meant_l38 a0 ad5 k99_14 n38_18 x16 (x17 + 1) C24) (fun k93_24 => x_X0_meant_l48 a0 ad5 x17 k86_20 k77_22 NF9 0 C18))))) := rfl
def x_X0_meant (a0 : Nat) (a1 : Int32) (C : XH) (K : Int32 → XH → Prop) : Prop := (xcl C a0 = some 0 ∧ x_X0_shelf a0 a1 C (fun ad2 C1 => (xcl C1 ad2 = some 5 ∧ x_X5_row ad2 C1 (fun ad5 C4 => vd_X8_length ad5 C4 (fun r8 C7 => obd (xgr C7 (xis 0) a0 7) (fun ad9 => obd (xgi C7 (xis 4) ad9 0) (fun v10 => jn (fun (v11 : Int32) => x_X0_need v11 (-5) C7 (fun C12 => jn (fun (x13 : Int32) (C14 : XH) => K x13 C14) (fun k99_14 => x_X0_meant_l38 a0 ad5 k99_14 NF9 0 0 C12)) (fun ad39 C40 => (xcl C40 a0 = some 0 ∧ x_X0_refused a0 ad39 C40 (fun r42 C41 => K r42 C41)))) (fun k28_11 => (if r8 < v10 then k28_11 0 else k28_11 1)))))) (fun ad45 C46 => (xcl C46 a0 = some 0 ∧ x_X0_refused a0 ad45 C46 (fun r48 C47 => K r48 C47))))) (fun ad50 C51 => (xcl C51 a0 = some 0 ∧ x_X0_refused a0 ad50 C51 (fun r53 C52 => K r53 C52))))
theorem iX0_meant : xInfW yX0_meant cX0_meant 6 (some .int) [(0, 100, 101, 21)] 1 := ⟨q1336, by decide +kernel⟩
set_option maxHeartbeats 4000000 in
theorem xet_X0_meant (l : Launch) (hl0 : l.stackTraces = false) (a0 : Nat) (a1 : Int32) (C : XH) (K : Int32 → XH → Prop) (hs : x_X0_meant a0 a1 C K) : xMetX l yX0_meant (wsW_ yX0_meant cX0_meant 6 (some .int) [(0, 100, 101, 21)]) 13 10322 110 2248 C [.ref a0, .int a1] (fun D dT A => xQi D dT K A) xE0 := by
  intro D dT adK adV sz
  refine xEnterW (own := RX0) (Qc := xQi D dT K) (XC := xXC D dT xE0) (by decide) rfl (by rfl) ?_
  intro p e s m args below meth c A ls X hnm hK hA hG hT hI hl
  have hx := X.1
  have hb := X.2.1
  have hts := X.2.2.2.2.1
  have hown := X.2.2.2.2.2.1
  have hl : lv_has ls 6 [(0, .ref a0), (1, .int a1)] := hl
  unfold x_X0_meant at hs
  refine lv_aload_n hx hb dX0_meant_0 rfl (lv_at hl 0 rfl) ?_
  refine lv_iload_n hx hb dX0_meant_1 rfl (lv_at hl 1 rfl) ?_
  obtain ⟨h2, hs⟩ := hs
  obtain ⟨fh2, h2⟩ := xcl_spec h2
  refine xT_gor hA hI (x_runVTW (As := [.int a1]) (rest := []) X hK hA hG hI h2 (q := (RX0, TX0, 10)) rfl rfl (xet_X0_shelf l hl0 a0 a1 _ _ _ hs) iX0_shelf q364 q366 qs0 q94 ⟨(Nat.le_of_ble_eq_true rfl), (Nat.le_of_ble_eq_true rfl)⟩ rfl hl.1 rfl (Nat.le_of_ble_eq_true rfl) dX0_meant_2 ⟨(Nat.le_of_ble_eq_true rfl), (Nat.le_of_ble_eq_true rfl)⟩) (fun En ce ad50 C51 H locs hs9 hI hce hvm hcl => ?_) (fun ad2 C1 H locs hs9 hI => ?_)
  · obtain ⟨rfl, hs0⟩ := hs9
    replace hs := hs0
    refine x_catch (k := 0) (a1 := 0) (a2 := 100) (a3 := 101) (a4 := 21) X hG hT rfl (x_cov rfl) rfl (by decide) q363 (by decide) hce hvm hcl ?_
    refine lv_astore_n (lv' := [(2, .ref ad50), (0, .ref a0), (1, .int a1)]) hx hb dX0_meant_101 rfl hl (by decide) rfl (fun ls hl => ?_)
    refine lv_aload_n hx hb dX0_meant_102 rfl (lv_at hl 1 rfl) ?_
    refine lv_aload_n hx hb dX0_meant_103 rfl (lv_at hl 0 rfl) ?_
    obtain ⟨h53, hs⟩ := hs
    obtain ⟨fh53, h53⟩ := xcl_spec h53
    refine x_goi hA hI (x_runV (As := [.ref ad50]) (rest := []) X hK hA hG hI h53 (q := (RX0, TX0, 10)) rfl rfl (xet_X0_refused l a0 ad50 _ _ hs) iX0_refused q538 q540 qs2 q94 ⟨(Nat.le_of_ble_eq_true rfl), (Nat.le_of_ble_eq_true rfl)⟩ rfl hl.1 rfl (Nat.le_of_ble_eq_true rfl) dX0_meant_104 ⟨(Nat.le_of_ble_eq_true rfl), (Nat.le_of_ble_eq_true rfl)⟩) (fun r53 C52 H locs hs9 hI => ?_)
    replace hs := hs9
    exact vx_ret (x_reti X hK hI hs (Nat.le_of_ble_eq_true rfl) (Nat.le_of_ble_eq_true rfl) dX0_meant_107)
  · replace hs := hs9
    obtain ⟨h5, hs⟩ := hs
    obtain ⟨fh5, h5⟩ := xcl_spec h5
    refine xT_gor hA hI (x_runVTW (As := []) (rest := []) X hK hA hG hI h5 (q := (RX5, TX5, 1)) rfl rfl (xet_X5_row l hl0 ad2 _ _ _ hs) iX5_row q546 q547 q548 q99 ⟨(Nat.le_of_ble_eq_true rfl), (Nat.le_of_ble_eq_true rfl)⟩ rfl hl.1 rfl (Nat.le_of_ble_eq_true rfl) dX0_meant_5 ⟨(Nat.le_of_ble_eq_true rfl), (Nat.le_of_ble_eq_true rfl)⟩) (fun En ce ad45 C46 H locs hs9 hI hce hvm hcl => ?_) (fun ad5 C4 H locs hs9 hI => ?_)
    · obtain ⟨rfl, hs0⟩ := hs9
      replace hs := hs0
      refine x_catch (k := 0) (a1 := 0) (a2 := 100) (a3 := 101) (a4 := 21) X hG hT rfl (x_cov rfl) rfl (by decide) q363 (by decide) hce hvm hcl ?_
      refine lv_astore_n (lv' := [(2, .ref ad45), (0, .ref a0), (1, .int a1)]) hx hb dX0_meant_101 rfl hl (by decide) rfl (fun ls hl => ?_)
      refine lv_aload_n hx hb dX0_meant_102 rfl (lv_at hl 1 rfl) ?_
      refine lv_aload_n hx hb dX0_meant_103 rfl (lv_at hl 0 rfl) ?_
      obtain ⟨h48, hs⟩ := hs
      obtain ⟨fh48, h48⟩ := xcl_spec h48
      refine x_goi hA hI (x_runV (As := [.ref ad45]) (rest := []) X hK hA hG hI h48 (q := (RX0, TX0, 10)) rfl rfl (xet_X0_refused l a0 ad45 _ _ hs) iX0_refused q538 q540 qs2 q94 ⟨(Nat.le_of_ble_eq_true rfl), (Nat.le_of_ble_eq_true rfl)⟩ rfl hl.1 rfl (Nat.le_of_ble_eq_true rfl) dX0_meant_104 ⟨(Nat.le_of_ble_eq_true rfl), (Nat.le_of_ble_eq_true rfl)⟩) (fun r48 C47 H locs hs9 hI => ?_)
      replace hs := hs9
      exact vx_ret (x_reti X hK hI hs (Nat.le_of_ble_eq_true rfl) (Nat.le_of_ble_eq_true rfl) dX0_meant_107)
    · replace hs := hs9
      refine lv_astore_n (lv' := [(2, .ref ad5), (0, .ref a0), (1, .int a1)]) hx hb dX0_meant_8 rfl hl (by decide) rfl (fun ls hl => ?_)
      refine lv_aload_n hx hb dX0_meant_9 rfl (lv_at hl 0 rfl) ?_
      refine x_goi hA hI (vdc_X8_length (rest := []) X hK hA hG hI ad5 _ hs q1327 ⟨(Nat.le_of_ble_eq_true rfl), (Nat.le_of_ble_eq_true rfl)⟩ hl.1 (Nat.le_of_ble_eq_true rfl) dX0_meant_10 ⟨(Nat.le_of_ble_eq_true rfl), (Nat.le_of_ble_eq_true rfl)⟩) (fun r8 C7 H locs hs9 hI => ?_)
      replace hs := hs9
      refine lv_aload_n hx hb dX0_meant_13 rfl (lv_at hl 1 rfl) ?_
      obtain ⟨ad9, ead9, hs⟩ := hs
      refine x_get (v := .ref ad9) X hK hI 0 7 rfl in_X0 rfl q335 rfl (xgr_spec ead9) dX0_meant_14 ?_
      obtain ⟨v10, ev10, hs⟩ := hs
      refine x_get (v := .int v10) X hK hI 4 0 rfl in_X4 rfl q252 rfl (xgi_spec ev10) dX0_meant_17 ?_
      obtain ⟨k28_11, hk28_11, hs⟩ := jn_ex hs
      have Ek28_11 : ∀ (v11 : Int32) (H : Heap) (locs : List Loc) (ls : Array Slot), k28_11 v11 → xI D dT A s.heap C7 H locs → lv_has ls 6 [(0, .ref a0), (2, .ref ad5)] → W p l e (xRm 13 10322 110 2248) s m args below meth c H locs 9 2041 (vx_MQ below (xQi D dT K A) (xXC D dT xE0 A) args s 110 2248 A) (F0 m 28 ls [.int v11]) := by
        intro v11 H locs ls hs hI hl
        rw [hk28_11] at hs
        refine lv_bipush (v := (-5)) hx hb dX0_meant_28 (by decide) ?_
        refine xT_gov hA hI (x_runST (As := [.int v11, .int (-5)]) (rest := []) X hK hA hG hI (xet_X0_need l hl0 v11 (-5) _ _ _ hs) iX0_need q469 q470 q94 ⟨(Nat.le_of_ble_eq_true rfl), (Nat.le_of_ble_eq_true rfl)⟩ rfl hl.1 rfl (Nat.le_of_ble_eq_true rfl) dX0_meant_30 ⟨(Nat.le_of_ble_eq_true rfl), (Nat.le_of_ble_eq_true rfl)⟩) (fun En ce ad39 C40 H locs hs9 hI hce hvm hcl => ?_) (fun C12 H locs hs9 hI => ?_)
        · obtain ⟨rfl, hs0⟩ := hs9
          replace hs := hs0
          refine x_catch (k := 0) (a1 := 0) (a2 := 100) (a3 := 101) (a4 := 21) X hG hT rfl (x_cov rfl) rfl (by decide) q363 (by decide) hce hvm hcl ?_
          refine lv_astore_n (lv' := [(2, .ref ad39), (0, .ref a0)]) hx hb dX0_meant_101 rfl hl (by decide) rfl (fun ls hl => ?_)
          refine lv_aload_n hx hb dX0_meant_102 rfl (lv_at hl 1 rfl) ?_
          refine lv_aload_n hx hb dX0_meant_103 rfl (lv_at hl 0 rfl) ?_
          obtain ⟨h42, hs⟩ := hs
          obtain ⟨fh42, h42⟩ := xcl_spec h42
          refine x_goi hA hI (x_runV (As := [.ref ad39]) (rest := []) X hK hA hG hI h42 (q := (RX0, TX0, 10)) rfl rfl (xet_X0_refused l a0 ad39 _ _ hs) iX0_refused q538 q540 qs2 q94 ⟨(Nat.le_of_ble_eq_true rfl), (Nat.le_of_ble_eq_true rfl)⟩ rfl hl.1 rfl (Nat.le_of_ble_eq_true rfl) dX0_meant_104 ⟨(Nat.le_of_ble_eq_true rfl), (Nat.le_of_ble_eq_true rfl)⟩) (fun r42 C41 H locs hs9 hI => ?_)
          replace hs := hs9
          exact vx_ret (x_reti X hK hI hs (Nat.le_of_ble_eq_true rfl) (Nat.le_of_ble_eq_true rfl) dX0_meant_107)
        · replace hs := hs9
          refine lv_iconst (v := 0) hx hb dX0_meant_33 (by decide) ?_
          refine lv_istore_n (lv' := [(3, .int 0), (0, .ref a0), (2, .ref ad5)]) hx hb dX0_meant_34 rfl hl (by decide) rfl (fun ls hl => ?_)
          refine lv_iconst (v := 0) hx hb dX0_meant_35 (by decide) ?_
          refine lv_istore (lv' := [(4, .int 0), (3, .int 0), (0, .ref a0), (2, .ref ad5)]) hx hb dX0_meant_36 hl (by decide) rfl (fun ls hl => ?_)
          obtain ⟨k99_14, hk99_14, hs⟩ := jn_ex hs
          have Ek99_14 : ∀ (x13 : Int32) (C14 : XH) (H : Heap) (locs : List Loc) (ls : Array Slot), k99_14 x13 C14 → xI D dT A s.heap C14 H locs → lv_has ls 6 [(0, .ref a0), (3, .int x13)] → W p l e (xRm 13 10322 110 2248) s m args below meth c H locs 110 2248 (vx_MQ below (xQi D dT K A) (xXC D dT xE0 A) args s 110 2248 A) (F0 m 99 ls []) := by
            intro x13 C14 H locs ls hs hI hl
            rw [hk99_14] at hs
            refine lv_iload_n hx hb dX0_meant_99 rfl (lv_at hl 1 rfl) ?_
            exact vx_ret (x_reti X hK hI hs (Nat.le_of_ble_eq_true rfl) (Nat.le_of_ble_eq_true rfl) dX0_meant_100)
          have Lx_X0_meant_l38 : ∀ (n38_18 : Nat) (ce38 sl38 : Nat), ce38 + (n38_18 + 1) * 10 ≤ 110 → sl38 + (n38_18 + 1) * 20 ≤ 2248 → ∀ (x16 : Int32) (x17 : Int32) (C18 : XH) (H : Heap) (locs : List Loc) (ls : Array Slot), x_X0_meant_l38 a0 ad5 k99_14 n38_18 x16 x17 C18 → xI D dT A s.heap C18 H locs → lv_has ls 6 [(0, .ref a0), (2, .ref ad5), (3, .int x16), (4, .int x17)] → W p l e (xRm 13 10322 110 2248) s m args below meth c H locs ce38 sl38 (vx_MQ below (xQi D dT K A) (xXC D dT xE0 A) args s 110 2248 A) (F0 m 38 ls []) := by
            intro n38_18
            induction n38_18 with
            | zero =>
              intro ce38 sl38 hce38 hsl38 x16 x17 C18 H locs ls hs
              exact False.elim hs
            | succ n38_18 ihx_X0_meant_l38 =>
              intro ce38 sl38 hce38 hsl38 x16 x17 C18 H locs ls hs hI hl
              rw [x_X0_meant_l38_s] at hs
              refine lv_iload hx hb dX0_meant_38 (lv_at hl 3 rfl) ?_
              refine lv_bipush (v := 7) hx hb dX0_meant_40 (by decide) ?_
              refine lv_icmp_ge (tgt := 99) hx hb dX0_meant_42 (by decide) (fun c37 => ?_) (fun c37 => ?_)
              · replace hs := ifp c37 hs
                exact W.widen (show ce38 ≤ 110 by omega) (show sl38 ≤ 2248 by omega) (Ek99_14 _ _ _ _ _ hs hI (lv_sub hl [0, 2] rfl))
              · replace hs := ifn c37 hs
                refine lv_iconst (v := 0) hx hb dX0_meant_45 (by decide) ?_
                refine lv_istore (lv' := [(5, .int 0), (0, .ref a0), (2, .ref ad5), (3, .int x16), (4, .int x17)]) hx hb dX0_meant_46 hl (by decide) rfl (fun ls hl => ?_)
                obtain ⟨k86_20, hk86_20, hs⟩ := jn_ex hs
                have Ek86_20 : ∀ (C20 : XH) (H : Heap) (locs : List Loc) (ls : Array Slot), k86_20 C20 → xI D dT A s.heap C20 H locs → lv_has ls 6 [(0, .ref a0), (2, .ref ad5), (3, .int x16), (4, .int x17)] → W p l e (xRm 13 10322 110 2248) s m args below meth c H locs (ce38 + 10) (sl38 + 20) (vx_MQ below (xQi D dT K A) (xXC D dT xE0 A) args s 110 2248 A) (F0 m 86 ls []) := by
                  intro C20 H locs ls hs hI hl
                  rw [hk86_20] at hs
                  refine lv_iload_n hx hb dX0_meant_86 rfl (lv_at hl 2 rfl) ?_
                  refine lv_iconst (v := 1) hx hb dX0_meant_87 (by decide) ?_
                  refine lv_iload hx hb dX0_meant_88 (lv_at hl 3 rfl) ?_
                  refine lv_ishl hx hb dX0_meant_90 ?_
                  refine lv_ior hx hb dX0_meant_91 ?_
                  refine lv_istore_n (lv' := [(3, .int (x16 ||| (1 <<< (x17 &&& 31)))), (0, .ref a0), (2, .ref ad5), (4, .int x17)]) hx hb dX0_meant_92 rfl hl (by decide) rfl (fun ls hl => ?_)
                  refine lv_iinc (v := (x17 + 1)) (lv' := [(4, .int (x17 + 1)), (3, .int (x16 ||| (1 <<< (x17 &&& 31)))), (0, .ref a0), (2, .ref ad5)]) hx hb dX0_meant_93 hl (k := 3) rfl (congrArg (fun z => x17 + z) (show Int32.ofInt (1) = 1 by decide)) (by decide) rfl (fun ls hl => ?_)
                  refine lv_goto (tgt := 38) hx hb dX0_meant_96 (by decide) ?_
                  exact ihx_X0_meant_l38 (ce38 + 10) (sl38 + 20) (by omega) (by omega) _ _ _ _ _ _ hs hI (lv_sub hl [2, 3, 1, 0] rfl)
                obtain ⟨k77_22, hk77_22, hs⟩ := jn_ex hs
                have Ek77_22 : ∀ (C22 : XH) (H : Heap) (locs : List Loc) (ls : Array Slot), k77_22 C22 → xI D dT A s.heap C22 H locs → lv_has ls 6 [(0, .ref a0), (2, .ref ad5), (3, .int x16), (4, .int x17)] → W p l e (xRm 13 10322 110 2248) s m args below meth c H locs (ce38 + 10) (sl38 + 20) (vx_MQ below (xQi D dT K A) (xXC D dT xE0 A) args s 110 2248 A) (F0 m 77 ls []) := by
                  intro C22 H locs ls hs hI hl
                  rw [hk77_22] at hs
                  refine lv_goto (tgt := 93) hx hb dX0_meant_77 (by decide) ?_
                  refine lv_iinc (v := (x17 + 1)) (lv' := [(4, .int (x17 + 1)), (0, .ref a0), (2, .ref ad5), (3, .int x16)]) hx hb dX0_meant_93 hl (k := 3) rfl (congrArg (fun z => x17 + z) (show Int32.ofInt (1) = 1 by decide)) (by decide) rfl (fun ls hl => ?_)
                  refine lv_goto (tgt := 38) hx hb dX0_meant_96 (by decide) ?_
                  exact ihx_X0_meant_l38 (ce38 + 10) (sl38 + 20) (by omega) (by omega) _ _ _ _ _ _ hs hI (lv_sub hl [1, 2, 3, 0] rfl)
                obtain ⟨k93_24, hk93_24, hs⟩ := jn_ex hs
                have Ek93_24 : ∀ (C24 : XH) (H : Heap) (locs : List Loc) (ls : Array Slot), k93_24 C24 → xI D dT A s.heap C24 H locs → lv_has ls 6 [(0, .ref a0), (2, .ref ad5), (3, .int x16), (4, .int x17)] → W p l e (xRm 13 10322 110 2248) s m args below meth c H locs (ce38 + 10) (sl38 + 20) (vx_MQ below (xQi D dT K A) (xXC D dT xE0 A) args s 110 2248 A) (F0 m 93 ls []) := by
                  intro C24 H locs ls hs hI hl
                  rw [hk93_24] at hs
                  refine lv_iinc (v := (x17 + 1)) (lv' := [(4, .int (x17 + 1)), (0, .ref a0), (2, .ref ad5), (3, .int x16)]) hx hb dX0_meant_93 hl (k := 3) rfl (congrArg (fun z => x17 + z) (show Int32.ofInt (1) = 1 by decide)) (by decide) rfl (fun ls hl => ?_)
                  refine lv_goto (tgt := 38) hx hb dX0_meant_96 (by decide) ?_
                  exact ihx_X0_meant_l38 (ce38 + 10) (sl38 + 20) (by omega) (by omega) _ _ _ _ _ _ hs hI (lv_sub hl [1, 2, 3, 0] rfl)
                have Lx_X0_meant_l48 : ∀ (n48_27 : Nat) (ce48 sl48 : Nat), ce48 + (n48_27 + 1) * 1 ≤ ce38 + 10 → sl48 + (n48_27 + 1) * 2 ≤ sl38 + 20 → ∀ (x26 : Int32) (C27 : XH) (H : Heap) (locs : List Loc) (ls : Array Slot), x_X0_meant_l48 a0 ad5 x17 k86_20 k77_22 n48_27 x26 C27 → xI D dT A s.heap C27 H locs → lv_has ls 6 [(0, .ref a0), (2, .ref ad5), (3, .int x16), (4, .int x17), (5, .int x26)] → W p l e (xRm 13 10322 110 2248) s m args below meth c H locs ce48 sl48 (vx_MQ below (xQi D dT K A) (xXC D dT xE0 A) args s 110 2248 A) (F0 m 48 ls []) := by
                  intro n48_27
                  induction n48_27 with
                  | zero =>
                    intro ce48 sl48 hce48 hsl48 x26 C27 H locs ls hs
                    exact False.elim hs
                  | succ n48_27 ihx_X0_meant_l48 =>
                    intro ce48 sl48 hce48 hsl48 x26 C27 H locs ls hs hI hl
                    rw [x_X0_meant_l48_s] at hs
                    refine lv_iload hx hb dX0_meant_48 (lv_at hl 4 rfl) ?_
                    refine lv_aload_n hx hb dX0_meant_50 rfl (lv_at hl 0 rfl) ?_
                    obtain ⟨ad29, ead29, hs⟩ := hs
                    refine x_get (v := .ref ad29) X hK hI 0 7 rfl in_X0 rfl q335 rfl (xgr_spec ead29) dX0_meant_51 ?_
                    obtain ⟨v30, ev30, hs⟩ := hs
                    refine x_get (v := .int v30) X hK hI 4 0 rfl in_X4 rfl q252 rfl (xgi_spec ev30) dX0_meant_54 ?_
                    refine lv_icmp_ge (tgt := 86) hx hb dX0_meant_57 (by decide) (fun c36 => ?_) (fun c36 => ?_)
                    · replace hs := ifp c36 hs
                      exact W.widen (show ce48 ≤ (ce38 + 10) by omega) (show sl48 ≤ (sl38 + 20) by omega) (Ek86_20 _ _ _ _ hs hI (lv_sub hl [0, 1, 2, 3] rfl))
                    · replace hs := ifn c36 hs
                      refine lv_aload_n hx hb dX0_meant_60 rfl (lv_at hl 1 rfl) ?_
                      refine lv_iload hx hb dX0_meant_61 (lv_at hl 4 rfl) ?_
                      refine x_goi hA hI (vdc_X8_asInt (rest := []) X hK hA hG hI ad5 x26 _ hs q1332 ⟨(Nat.le_of_ble_eq_true rfl), (Nat.le_of_ble_eq_true rfl)⟩ hl.1 (Nat.le_of_ble_eq_true rfl) dX0_meant_63 ⟨(show ce48 ≤ 110 by omega), (show sl48 ≤ 2248 by omega)⟩) (fun r32 C31 H locs hs9 hI => ?_)
                      replace hs := hs9
                      refine lv_aload_n hx hb dX0_meant_66 rfl (lv_at hl 0 rfl) ?_
                      refine lv_iload hx hb dX0_meant_67 (lv_at hl 4 rfl) ?_
                      refine lv_iload hx hb dX0_meant_69 (lv_at hl 3 rfl) ?_
                      obtain ⟨h34, hs⟩ := hs
                      obtain ⟨fh34, h34⟩ := xcl_spec h34
                      refine x_goi hA hI (x_runV (As := [.int x26, .int x17]) (rest := [.int r32]) X hK hA hG hI h34 (q := (RX0, TX0, 10)) rfl rfl (xet_X0_timeAs l a0 x26 x17 _ _ hs) iX0_timeAs q1230 q1232 qs28 q94 ⟨(Nat.le_of_ble_eq_true rfl), (Nat.le_of_ble_eq_true rfl)⟩ rfl hl.1 rfl (Nat.le_of_ble_eq_true rfl) dX0_meant_71 ⟨(show (ce48 + 1) ≤ 110 by omega), (show (sl48 + 2) ≤ 2248 by omega)⟩) (fun r34 C33 H locs hs9 hI => ?_)
                      replace hs := hs9
                      refine lv_icmp_eq (tgt := 80) hx hb dX0_meant_74 (by decide) (fun c35 => ?_) (fun c35 => ?_)
                      · replace hs := ifp c35 hs
                        refine lv_iinc (v := (x26 + 1)) (lv' := [(5, .int (x26 + 1)), (0, .ref a0), (2, .ref ad5), (3, .int x16), (4, .int x17)]) hx hb dX0_meant_80 hl (k := 4) rfl (congrArg (fun z => x26 + z) (show Int32.ofInt (1) = 1 by decide)) (by decide) rfl (fun ls hl => ?_)
                        refine lv_goto (tgt := 48) hx hb dX0_meant_83 (by decide) ?_
                        exact ihx_X0_meant_l48 (ce48 + 1) (sl48 + 2) (by omega) (by omega) _ _ _ _ _ hs hI (lv_sub hl [1, 2, 3, 4, 0] rfl)
                      · replace hs := ifn c35 hs
                        exact W.widen (show (ce48 + 1) ≤ (ce38 + 10) by omega) (show (sl48 + 2) ≤ (sl38 + 20) by omega) (Ek77_22 _ _ _ _ hs hI (lv_sub hl [0, 1, 2, 3] rfl))
                have hNF := NF9_eq
                exact Lx_X0_meant_l48 NF9 ce38 sl38 (by omega) (by omega) _ _ _ _ _ hs hI (lv_sub hl [1, 2, 3, 4, 0] rfl)
          have hNF := NF9_eq
          exact Lx_X0_meant_l38 NF9 10 2048 (by omega) (by omega) _ _ _ _ _ _ hs hI (lv_sub hl [2, 3, 1, 0] rfl)
      refine lv_icmp_lt (tgt := 27) hx hb dX0_meant_20 (by decide) (fun c43 => ?_) (fun c43 => ?_)
      · replace hs := ifp c43 hs
        refine lv_iconst (v := 0) hx hb dX0_meant_27 (by decide) ?_
        exact Ek28_11 _ _ _ _ hs hI (lv_sub hl [1, 0] rfl)
      · replace hs := ifn c43 hs
        refine lv_iconst (v := 1) hx hb dX0_meant_23 (by decide) ?_
        refine lv_goto (tgt := 28) hx hb dX0_meant_24 (by decide) ?_
        exact Ek28_11 _ _ _ _ hs hI (lv_sub hl [1, 0] rfl)
def x_X0_worn_l10 (K : Int32 → XH → Prop) (a0 : Nat) (a1 : Int32) (a2 : Int32) : Nat → Int32 → Int32 → XH → Prop
  | 0, _, _, _ => False
  | n10_5 + 1, x3, x4, C5 => obd (xgr C5 (xis 0) a0 7) (fun ad7 => obd (xgi C5 (xis 4) ad7 1) (fun v8 => (if v8 ≤ x4 then K x3 C5 else (xcl C5 a0 = some 0 ∧ x_X0_timeIn a0 a1 x4 C5 (fun r10 C9 => jn (fun (v12 : Int32) => x_X0_worn_l10 K a0 a1 a2 n10_5 (x3 ||| v12) (x4 + 1) C9) (fun k42_12 => (if r10 = a2 then k42_12 (1 <<< (x4 &&& 31)) else k42_12 0)))))))
theorem x_X0_worn_l10_s (K : Int32 → XH → Prop) (a0 : Nat) (a1 : Int32) (a2 : Int32) (n10_5 : Nat) (x3 : Int32) (x4 : Int32) (C5 : XH) : x_X0_worn_l10 K a0 a1 a2 (n10_5 + 1) x3 x4 C5 = (obd (xgr C5 (xis 0) a0 7) (fun ad7 => obd (xgi C5 (xis 4) ad7 1) (fun v8 => (if v8 ≤ x4 then K x3 C5 else (xcl C5 a0 = some 0 ∧ x_X0_timeIn a0 a1 x4 C5 (fun r10 C9 => jn (fun (v12 : Int32) => x_X0_worn_l10 K a0 a1 a2 n10_5 (x3 ||| v12) (x4 + 1) C9) (fun k42_12 => (if r10 = a2 then k42_12 (1 <<< (x4 &&& 31)) else k42_12 0)))))))) := rfl
def x_X0_worn (a0 : Nat) (a1 : Int32) (a2 : Int32) (C : XH) (K : Int32 → XH → Prop) : Prop := (xcl C a0 = some 0 ∧ x_X0_mustChild a0 a1 C (fun C1 => x_X0_worn_l10 K a0 a1 a2 NF 0 0 C1) (fun ad15 C16 => (xcl C16 a0 = some 0 ∧ x_X0_refused a0 ad15 C16 (fun r18 C17 => K r18 C17))))
theorem iX0_worn : xInfW yX0_worn cX0_worn 5 (some .int) [(0, 51, 52, 21)] 2 := ⟨q1340, by decide +kernel⟩
set_option maxHeartbeats 4000000 in
theorem xet_X0_worn (l : Launch) (hl0 : l.stackTraces = false) (a0 : Nat) (a1 : Int32) (a2 : Int32) (C : XH) (K : Int32 → XH → Prop) (hs : x_X0_worn a0 a1 a2 C K) : xMetX l yX0_worn (wsW_ yX0_worn cX0_worn 5 (some .int) [(0, 51, 52, 21)]) 8 182 1 7 C [.ref a0, .int a1, .int a2] (fun D dT A => xQi D dT K A) xE0 := by
  intro D dT adK adV sz
  refine xEnterW (own := RX0) (Qc := xQi D dT K) (XC := xXC D dT xE0) (by decide) rfl (by rfl) ?_
  intro p e s m args below meth c A ls X hnm hK hA hG hT hI hl
  have hx := X.1
  have hb := X.2.1
  have hts := X.2.2.2.2.1
  have hown := X.2.2.2.2.2.1
  have hl : lv_has ls 5 [(0, .ref a0), (1, .int a1), (2, .int a2)] := hl
  unfold x_X0_worn at hs
  refine lv_aload_n hx hb dX0_worn_0 rfl (lv_at hl 0 rfl) ?_
  refine lv_iload_n hx hb dX0_worn_1 rfl (lv_at hl 1 rfl) ?_
  obtain ⟨h1, hs⟩ := hs
  obtain ⟨fh1, h1⟩ := xcl_spec h1
  refine xT_gov hA hI (x_runVT (As := [.int a1]) (rest := []) X hK hA hG hI h1 (q := (RX0, TX0, 10)) rfl rfl (xet_X0_mustChild l hl0 a0 a1 _ _ _ hs) iX0_mustChild q649 q651 qs3 q94 ⟨(Nat.le_of_ble_eq_true rfl), (Nat.le_of_ble_eq_true rfl)⟩ rfl hl.1 rfl (Nat.le_of_ble_eq_true rfl) dX0_worn_2 ⟨(Nat.le_of_ble_eq_true rfl), (Nat.le_of_ble_eq_true rfl)⟩) (fun En ce ad15 C16 H locs hs9 hI hce hvm hcl => ?_) (fun C1 H locs hs9 hI => ?_)
  · obtain ⟨rfl, hs0⟩ := hs9
    replace hs := hs0
    refine x_catch (k := 0) (a1 := 0) (a2 := 51) (a3 := 52) (a4 := 21) X hG hT rfl (x_cov rfl) rfl (by decide) q363 (by decide) hce hvm hcl ?_
    refine lv_astore_n (lv' := [(3, .ref ad15), (0, .ref a0), (1, .int a1), (2, .int a2)]) hx hb dX0_worn_52 rfl hl (by decide) rfl (fun ls hl => ?_)
    refine lv_aload_n hx hb dX0_worn_53 rfl (lv_at hl 1 rfl) ?_
    refine lv_aload_n hx hb dX0_worn_54 rfl (lv_at hl 0 rfl) ?_
    obtain ⟨h18, hs⟩ := hs
    obtain ⟨fh18, h18⟩ := xcl_spec h18
    refine x_goi hA hI (x_runV (As := [.ref ad15]) (rest := []) X hK hA hG hI h18 (q := (RX0, TX0, 10)) rfl rfl (xet_X0_refused l a0 ad15 _ _ hs) iX0_refused q538 q540 qs2 q94 ⟨(Nat.le_of_ble_eq_true rfl), (Nat.le_of_ble_eq_true rfl)⟩ rfl hl.1 rfl (Nat.le_of_ble_eq_true rfl) dX0_worn_55 ⟨(Nat.le_of_ble_eq_true rfl), (Nat.le_of_ble_eq_true rfl)⟩) (fun r18 C17 H locs hs9 hI => ?_)
    replace hs := hs9
    exact vx_ret (x_reti X hK hI hs (Nat.le_of_ble_eq_true rfl) (Nat.le_of_ble_eq_true rfl) dX0_worn_58)
  · replace hs := hs9
    refine lv_iconst (v := 0) hx hb dX0_worn_5 (by decide) ?_
    refine lv_istore_n (lv' := [(3, .int 0), (0, .ref a0), (1, .int a1), (2, .int a2)]) hx hb dX0_worn_6 rfl hl (by decide) rfl (fun ls hl => ?_)
    refine lv_iconst (v := 0) hx hb dX0_worn_7 (by decide) ?_
    refine lv_istore (lv' := [(4, .int 0), (3, .int 0), (0, .ref a0), (1, .int a1), (2, .int a2)]) hx hb dX0_worn_8 hl (by decide) rfl (fun ls hl => ?_)
    have Lx_X0_worn_l10 : ∀ (n10_5 : Nat) (x3 : Int32) (x4 : Int32) (C5 : XH) (H : Heap) (locs : List Loc) (ls : Array Slot), x_X0_worn_l10 K a0 a1 a2 n10_5 x3 x4 C5 → xI D dT A s.heap C5 H locs → lv_has ls 5 [(0, .ref a0), (1, .int a1), (2, .int a2), (3, .int x3), (4, .int x4)] → W p l e (xRm 8 182 1 7) s m args below meth c H locs 1 7 (vx_MQ below (xQi D dT K A) (xXC D dT xE0 A) args s 1 7 A) (F0 m 10 ls []) := by
      intro n10_5
      induction n10_5 with
      | zero =>
        intro x3 x4 C5 H locs ls hs
        exact False.elim hs
      | succ n10_5 ihx_X0_worn_l10 =>
        intro x3 x4 C5 H locs ls hs hI hl
        rw [x_X0_worn_l10_s] at hs
        refine lv_iload hx hb dX0_worn_10 (lv_at hl 4 rfl) ?_
        refine lv_aload_n hx hb dX0_worn_12 rfl (lv_at hl 0 rfl) ?_
        obtain ⟨ad7, ead7, hs⟩ := hs
        refine x_get (v := .ref ad7) X hK hI 0 7 rfl in_X0 rfl q335 rfl (xgr_spec ead7) dX0_worn_13 ?_
        obtain ⟨v8, ev8, hs⟩ := hs
        refine x_get (v := .int v8) X hK hI 4 1 rfl in_X4 rfl q257 rfl (xgi_spec ev8) dX0_worn_16 ?_
        refine lv_icmp_ge (tgt := 50) hx hb dX0_worn_19 (by decide) (fun c13 => ?_) (fun c13 => ?_)
        · replace hs := ifp c13 hs
          refine lv_iload_n hx hb dX0_worn_50 rfl (lv_at hl 3 rfl) ?_
          exact vx_ret (x_reti X hK hI hs (Nat.le_of_ble_eq_true rfl) (Nat.le_of_ble_eq_true rfl) dX0_worn_51)
        · replace hs := ifn c13 hs
          refine lv_iload_n hx hb dX0_worn_22 rfl (lv_at hl 3 rfl) ?_
          refine lv_aload_n hx hb dX0_worn_23 rfl (lv_at hl 0 rfl) ?_
          refine lv_iload_n hx hb dX0_worn_24 rfl (lv_at hl 1 rfl) ?_
          refine lv_iload hx hb dX0_worn_25 (lv_at hl 4 rfl) ?_
          obtain ⟨h10, hs⟩ := hs
          obtain ⟨fh10, h10⟩ := xcl_spec h10
          refine x_goi hA hI (x_runV (As := [.int a1, .int x4]) (rest := [.int x3]) X hK hA hG hI h10 (q := (RX0, TX0, 10)) rfl rfl (xet_X0_timeIn l a0 a1 x4 _ _ hs) iX0_timeIn q1240 q1242 qs30 q94 ⟨(Nat.le_of_ble_eq_true rfl), (Nat.le_of_ble_eq_true rfl)⟩ rfl hl.1 rfl (Nat.le_of_ble_eq_true rfl) dX0_worn_27 ⟨(Nat.le_of_ble_eq_true rfl), (Nat.le_of_ble_eq_true rfl)⟩) (fun r10 C9 H locs hs9 hI => ?_)
          replace hs := hs9
          refine lv_iload_n hx hb dX0_worn_30 rfl (lv_at hl 2 rfl) ?_
          obtain ⟨k42_12, hk42_12, hs⟩ := jn_ex hs
          have Ek42_12 : ∀ (v12 : Int32) (H : Heap) (locs : List Loc) (ls : Array Slot), k42_12 v12 → xI D dT A s.heap C9 H locs → lv_has ls 5 [(0, .ref a0), (1, .int a1), (2, .int a2), (4, .int x4)] → W p l e (xRm 8 182 1 7) s m args below meth c H locs 1 7 (vx_MQ below (xQi D dT K A) (xXC D dT xE0 A) args s 1 7 A) (F0 m 42 ls [.int v12, .int x3]) := by
            intro v12 H locs ls hs hI hl
            rw [hk42_12] at hs
            refine lv_ior hx hb dX0_worn_42 ?_
            refine lv_istore_n (lv' := [(3, .int (x3 ||| v12)), (0, .ref a0), (1, .int a1), (2, .int a2), (4, .int x4)]) hx hb dX0_worn_43 rfl hl (by decide) rfl (fun ls hl => ?_)
            refine lv_iinc (v := (x4 + 1)) (lv' := [(4, .int (x4 + 1)), (3, .int (x3 ||| v12)), (0, .ref a0), (1, .int a1), (2, .int a2)]) hx hb dX0_worn_44 hl (k := 4) rfl (congrArg (fun z => x4 + z) (show Int32.ofInt (1) = 1 by decide)) (by decide) rfl (fun ls hl => ?_)
            refine lv_goto (tgt := 10) hx hb dX0_worn_47 (by decide) ?_
            exact ihx_X0_worn_l10 _ _ _ _ _ _ hs hI (lv_sub hl [2, 3, 4, 1, 0] rfl)
          refine lv_icmp_ne (tgt := 41) hx hb dX0_worn_31 (by decide) (fun c12 => ?_) (fun c12 => ?_)
          · replace hs := ifn c12 hs
            refine lv_iconst (v := 0) hx hb dX0_worn_41 (by decide) ?_
            exact Ek42_12 _ _ _ _ hs hI (lv_sub hl [0, 1, 2, 4] rfl)
          · replace hs := ifp c12 hs
            refine lv_iconst (v := 1) hx hb dX0_worn_34 (by decide) ?_
            refine lv_iload hx hb dX0_worn_35 (lv_at hl 4 rfl) ?_
            refine lv_ishl hx hb dX0_worn_37 ?_
            refine lv_goto (tgt := 42) hx hb dX0_worn_38 (by decide) ?_
            exact Ek42_12 _ _ _ _ hs hI (lv_sub hl [0, 1, 2, 4] rfl)
    exact Lx_X0_worn_l10 NF _ _ _ _ _ _ hs hI (lv_sub hl [2, 3, 4, 1, 0] rfl)
def x_X4_draw (a0 : Nat) (a1 : Int32) (C : XH) (K : Int32 → XH → Prop) : Prop := obd (xgi C (xis 4) a0 4) (fun v1 => obd (xpv C (xis 4) a0 4 (.int ((v1 * 1103515245) + 12345))) (fun C2 => obd (xgi C2 (xis 4) a0 4) (fun v3 => (¬ (a1 : Int32) = 0 ∧ K ((((v3 : Int32).toUInt32 >>> ((16 : Int32).toUInt32 &&& Int32.toUInt32 31)).toInt32) - (((v3 : Int32).toUInt32 >>> ((16 : Int32).toUInt32 &&& Int32.toUInt32 31)).toInt32) / a1 * a1) C2))))
theorem iX4_draw : xInf yX4_draw cX4_draw 2 (some .int) 1 := ⟨q1357, by decide +kernel⟩
set_option maxHeartbeats 4000000 in
theorem xet_X4_draw (l : Launch) (a0 : Nat) (a1 : Int32) (C : XH) (K : Int32 → XH → Prop) (hs : x_X4_draw a0 a1 C K) : xMeti l yX4_draw (ws_ yX4_draw cX4_draw 2 (some .int)) 0 0 0 0 C [.ref a0, .int a1] K := by
  intro D dT adK adV sz
  refine xEnter (own := RX4) (Qc := xQi D dT K) (by decide) rfl (by rfl) ?_
  intro p e s m args below meth c A ls X hnm hK hA hG hI hl
  have hx := X.1
  have hb := X.2.1
  have hts := X.2.2.2.2.1
  have hown := X.2.2.2.2.2.1
  have hl : lv_has ls 2 [(0, .ref a0), (1, .int a1)] := hl
  unfold x_X4_draw at hs
  refine lv_aload_n hx hb dX4_draw_0 rfl (lv_at hl 0 rfl) ?_
  refine lv_aload_n hx hb dX4_draw_1 rfl (lv_at hl 0 rfl) ?_
  obtain ⟨v1, ev1, hs⟩ := hs
  refine x_get (v := .int v1) X hK hI 4 4 rfl in_X4 rfl q263 rfl (xgi_spec ev1) dX4_draw_2 ?_
  refine lv_ldc hx hb hown (hts _ q1358) dX4_draw_5 ?_
  refine lv_imul hx hb dX4_draw_7 ?_
  refine lv_sipush (v := 12345) hx hb dX4_draw_8 (by decide) ?_
  refine lv_iadd hx hb dX4_draw_11 ?_
  obtain ⟨C2, eC2, hs⟩ := hs
  refine x_put X hK hI 4 4 rfl in_X4 tyX4 tyX4_ok nmX4 rfl q263 rfl rfl rfl rfl eC2 dX4_draw_12 (fun H locs hI => ?_)
  refine lv_aload_n hx hb dX4_draw_15 rfl (lv_at hl 0 rfl) ?_
  obtain ⟨v3, ev3, hs⟩ := hs
  refine x_get (v := .int v3) X hK hI 4 4 rfl in_X4 rfl q263 rfl (xgi_spec ev3) dX4_draw_16 ?_
  refine lv_bipush (v := 16) hx hb dX4_draw_19 (by decide) ?_
  refine lv_iushr (v := (((v3 : Int32).toUInt32 >>> ((16 : Int32).toUInt32 &&& Int32.toUInt32 31)).toInt32)) hx hb dX4_draw_21 rfl ?_
  refine lv_iload_n hx hb dX4_draw_22 rfl (lv_at hl 1 rfl) ?_
  obtain ⟨z3, hs⟩ := hs
  refine lv_irem hx hb dX4_draw_23 z3 ?_
  exact x_reti X hK hI hs (Nat.le_of_ble_eq_true rfl) (Nat.le_of_ble_eq_true rfl) dX4_draw_24
def x_X2_passesDrawn (a0 : Nat) (C : XH) (K : XH → Prop) : Prop := obd (xgi C (xis 2) a0 11) (fun v1 => obd (xpv C (xis 2) a0 11 (.int (v1 + 1))) (fun C2 => obd (xgi C2 (xis 2) a0 8) (fun v3 => (if v3 ≤ 0 then obd (xgr C2 (xis 2) a0 0) (fun ad4 => (xcl C2 ad4 = some 4 ∧ x_X4_draw ad4 100 C2 (fun r6 C5 => (xcl C5 a0 = some 2 ∧ x_X2_riskNow a0 C5 (fun r9 C8 => jn (fun (v11 : Int32) => (xcl C8 a0 = some 2 ∧ x_X2_puffs a0 C8 (fun C12 => (xcl C12 a0 = some 2 ∧ x_X2_goes a0 v11 C12 (fun C14 => K C14))))) (fun k43_11 => (if r9 ≤ r6 then k43_11 0 else k43_11 1))))))) else (xcl C2 a0 = some 2 ∧ x_X2_lies a0 C2 (fun C17 => K C17))))))
theorem iX2_passesDrawn : xInf yX2_passesDrawn cX2_passesDrawn 2 none 0 := ⟨q1353, by decide +kernel⟩
set_option maxHeartbeats 4000000 in
theorem xet_X2_passesDrawn (l : Launch) (a0 : Nat) (C : XH) (K : XH → Prop) (hs : x_X2_passesDrawn a0 C K) : xMetv l yX2_passesDrawn (ws_ yX2_passesDrawn cX2_passesDrawn 2 none) 3 65 0 0 C [.ref a0] K := by
  intro D dT adK adV sz
  refine xEnter (own := RX2) (Qc := xQv D dT K) (by decide) rfl (by rfl) ?_
  intro p e s m args below meth c A ls X hnm hK hA hG hI hl
  have hx := X.1
  have hb := X.2.1
  have hts := X.2.2.2.2.1
  have hown := X.2.2.2.2.2.1
  have hl : lv_has ls 2 [(0, .ref a0)] := hl
  unfold x_X2_passesDrawn at hs
  refine lv_aload_n hx hb dX2_passesDrawn_0 rfl (lv_at hl 0 rfl) ?_
  refine lv_dup hx hb dX2_passesDrawn_1 rfl ?_
  obtain ⟨v1, ev1, hs⟩ := hs
  refine x_get (v := .int v1) X hK hI 2 11 rfl in_X2 rfl q179 rfl (xgi_spec ev1) dX2_passesDrawn_2 ?_
  refine lv_iconst (v := 1) hx hb dX2_passesDrawn_5 (by decide) ?_
  refine lv_iadd hx hb dX2_passesDrawn_6 ?_
  obtain ⟨C2, eC2, hs⟩ := hs
  refine x_put X hK hI 2 11 rfl in_X2 tyX2 tyX2_ok nmX2 rfl q179 rfl rfl rfl rfl eC2 dX2_passesDrawn_7 (fun H locs hI => ?_)
  refine lv_aload_n hx hb dX2_passesDrawn_10 rfl (lv_at hl 0 rfl) ?_
  obtain ⟨v3, ev3, hs⟩ := hs
  refine x_get (v := .int v3) X hK hI 2 8 rfl in_X2 rfl q173 rfl (xgi_spec ev3) dX2_passesDrawn_11 ?_
  refine lv_if_le (tgt := 22) hx hb dX2_passesDrawn_14 (by decide) (fun c18 => ?_) (fun c18 => ?_)
  · replace hs := ifp c18 hs
    refine lv_aload_n hx hb dX2_passesDrawn_22 rfl (lv_at hl 0 rfl) ?_
    obtain ⟨ad4, ead4, hs⟩ := hs
    refine x_get (v := .ref ad4) X hK hI 2 0 rfl in_X2 rfl q162 rfl (xgr_spec ead4) dX2_passesDrawn_23 ?_
    refine lv_bipush (v := 100) hx hb dX2_passesDrawn_26 (by decide) ?_
    obtain ⟨h6, hs⟩ := hs
    obtain ⟨fh6, h6⟩ := xcl_spec h6
    refine x_goi hA hI (x_runV (As := [.int 100]) (rest := []) X hK hA hG hI h6 (q := (RX4, TX4, 13)) rfl rfl (xet_X4_draw l ad4 100 _ _ hs) iX4_draw q1354 q1355 q1356 q98 ⟨(Nat.le_of_ble_eq_true rfl), (Nat.le_of_ble_eq_true rfl)⟩ rfl hl.1 rfl (Nat.le_of_ble_eq_true rfl) dX2_passesDrawn_28 ⟨(Nat.le_of_ble_eq_true rfl), (Nat.le_of_ble_eq_true rfl)⟩) (fun r6 C5 H locs hs9 hI => ?_)
    replace hs := hs9
    refine lv_aload_n hx hb dX2_passesDrawn_31 rfl (lv_at hl 0 rfl) ?_
    obtain ⟨h9, hs⟩ := hs
    obtain ⟨fh9, h9⟩ := xcl_spec h9
    refine x_goi hA hI (x_runV (As := []) (rest := [.int r6]) X hK hA hG hI h9 (q := (RX2, TX2, 12)) rfl rfl (xet_X2_riskNow l a0 _ _ hs) iX2_riskNow q1177 q1179 qs20 q96 ⟨(Nat.le_of_ble_eq_true rfl), (Nat.le_of_ble_eq_true rfl)⟩ rfl hl.1 rfl (Nat.le_of_ble_eq_true rfl) dX2_passesDrawn_32 ⟨(Nat.le_of_ble_eq_true rfl), (Nat.le_of_ble_eq_true rfl)⟩) (fun r9 C8 H locs hs9 hI => ?_)
    replace hs := hs9
    obtain ⟨k43_11, hk43_11, hs⟩ := jn_ex hs
    have Ek43_11 : ∀ (v11 : Int32) (H : Heap) (locs : List Loc) (ls : Array Slot), k43_11 v11 → xI D dT A s.heap C8 H locs → lv_has ls 2 [(0, .ref a0)] → W p l e (xRm 3 65 0 0) s m args below meth c H locs 0 0 (MQ below (xQv D dT K A) args s 0 0 A) (F0 m 43 ls [.int v11]) := by
      intro v11 H locs ls hs hI hl
      rw [hk43_11] at hs
      refine lv_istore_n (lv' := [(1, .int v11), (0, .ref a0)]) hx hb dX2_passesDrawn_43 rfl hl (by decide) rfl (fun ls hl => ?_)
      refine lv_aload_n hx hb dX2_passesDrawn_44 rfl (lv_at hl 1 rfl) ?_
      obtain ⟨h12, hs⟩ := hs
      obtain ⟨fh12, h12⟩ := xcl_spec h12
      refine x_gov hA hI (x_runV (As := []) (rest := []) X hK hA hG hI h12 (q := (RX2, TX2, 12)) rfl rfl (xet_X2_puffs l a0 _ _ hs) iX2_puffs q1181 q1183 qs21 q96 ⟨(Nat.le_of_ble_eq_true rfl), (Nat.le_of_ble_eq_true rfl)⟩ rfl hl.1 rfl (Nat.le_of_ble_eq_true rfl) dX2_passesDrawn_45 ⟨(Nat.le_of_ble_eq_true rfl), (Nat.le_of_ble_eq_true rfl)⟩) (fun C12 H locs hs9 hI => ?_)
      replace hs := hs9
      refine lv_aload_n hx hb dX2_passesDrawn_48 rfl (lv_at hl 1 rfl) ?_
      refine lv_iload_n hx hb dX2_passesDrawn_49 rfl (lv_at hl 0 rfl) ?_
      obtain ⟨h14, hs⟩ := hs
      obtain ⟨fh14, h14⟩ := xcl_spec h14
      refine x_gov hA hI (x_runV (As := [.int v11]) (rest := []) X hK hA hG hI h14 (q := (RX2, TX2, 12)) rfl rfl (xet_X2_goes l a0 v11 _ _ hs) iX2_goes q1185 q1187 qs22 q96 ⟨(Nat.le_of_ble_eq_true rfl), (Nat.le_of_ble_eq_true rfl)⟩ rfl hl.1 rfl (Nat.le_of_ble_eq_true rfl) dX2_passesDrawn_50 ⟨(Nat.le_of_ble_eq_true rfl), (Nat.le_of_ble_eq_true rfl)⟩) (fun C14 H locs hs9 hI => ?_)
      replace hs := hs9
      exact x_retv X hK hI hs (Nat.le_of_ble_eq_true rfl) (Nat.le_of_ble_eq_true rfl) dX2_passesDrawn_53
    refine lv_icmp_ge (tgt := 42) hx hb dX2_passesDrawn_35 (by decide) (fun c15 => ?_) (fun c15 => ?_)
    · replace hs := ifp c15 hs
      refine lv_iconst (v := 0) hx hb dX2_passesDrawn_42 (by decide) ?_
      exact Ek43_11 _ _ _ _ hs hI hl
    · replace hs := ifn c15 hs
      refine lv_iconst (v := 1) hx hb dX2_passesDrawn_38 (by decide) ?_
      refine lv_goto (tgt := 43) hx hb dX2_passesDrawn_39 (by decide) ?_
      exact Ek43_11 _ _ _ _ hs hI hl
  · replace hs := ifn c18 hs
    refine lv_aload_n hx hb dX2_passesDrawn_17 rfl (lv_at hl 0 rfl) ?_
    obtain ⟨h17, hs⟩ := hs
    obtain ⟨fh17, h17⟩ := xcl_spec h17
    refine x_gov hA hI (x_runV (As := []) (rest := []) X hK hA hG hI h17 (q := (RX2, TX2, 12)) rfl rfl (xet_X2_lies l a0 _ _ hs) iX2_lies q1166 q1168 qs18 q96 ⟨(Nat.le_of_ble_eq_true rfl), (Nat.le_of_ble_eq_true rfl)⟩ rfl hl.1 rfl (Nat.le_of_ble_eq_true rfl) dX2_passesDrawn_18 ⟨(Nat.le_of_ble_eq_true rfl), (Nat.le_of_ble_eq_true rfl)⟩) (fun C17 H locs hs9 hI => ?_)
    replace hs := hs9
    exact x_retv X hK hI hs (Nat.le_of_ble_eq_true rfl) (Nat.le_of_ble_eq_true rfl) dX2_passesDrawn_21
def x_X0_goesRace_l108 (a0 : Nat) (k162_6 : Int32 → XH → Prop) : Nat → Int32 → Int32 → Int32 → XH → Prop
  | 0, _, _, _, _ => False
  | n108_19 + 1, x16, x17, x18, C19 => obd (xgr C19 (xis 0) a0 7) (fun ad21 => obd (xgi C19 (xis 4) ad21 0) (fun v22 => (if v22 ≤ x18 then k162_6 x16 C19 else obd (xgr C19 (xis 0) a0 4) (fun ad23 => obd (xar C19 5 ad23 x18) (fun ad24 => (xcl C19 ad24 = some 2 ∧ x_X2_time ad24 C19 (fun r26 C25 => jn (fun (v28 : Int32) => obd (xgr C25 (xis 0) a0 4) (fun ad29 => obd (xar C25 5 ad29 x18) (fun ad30 => (xcl C25 ad30 = some 2 ∧ x_X2_time ad30 C25 (fun r32 C31 => x_X0_goesRace_l108 a0 k162_6 n108_19 v28 (imin x17 r32) (x18 + 1) C31))))) (fun k140_28 => (if x17 ≤ r26 then k140_28 x16 else k140_28 x18)))))))))
theorem x_X0_goesRace_l108_s (a0 : Nat) (k162_6 : Int32 → XH → Prop) (n108_19 : Nat) (x16 : Int32) (x17 : Int32) (x18 : Int32) (C19 : XH) : x_X0_goesRace_l108 a0 k162_6 (n108_19 + 1) x16 x17 x18 C19 = (obd (xgr C19 (xis 0) a0 7) (fun ad21 => obd (xgi C19 (xis 4) ad21 0) (fun v22 => (if v22 ≤ x18 then k162_6 x16 C19 else obd (xgr C19 (xis 0) a0 4) (fun ad23 => obd (xar C19 5 ad23 x18) (fun ad24 => (xcl C19 ad24 = some 2 ∧ x_X2_time ad24 C19 (fun r26 C25 => jn (fun (v28 : Int32) => obd (xgr C25 (xis 0) a0 4) (fun ad29 => obd (xar C25 5 ad29 x18) (fun ad30 => (xcl C25 ad30 = some 2 ∧ x_X2_time ad30 C25 (fun r32 C31 => x_X0_goesRace_l108 a0 k162_6 n108_19 v28 (imin x17 r32) (x18 + 1) C31))))) (fun k140_28 => (if x17 ≤ r26 then k140_28 x16 else k140_28 x18)))))))))) := rfl
def x_X0_goesRace_l53 (a0 : Nat) (k93_41 : Int32 → XH → Prop) : Nat → Int32 → Int32 → XH → Prop
  | 0, _, _, _ => False
  | n53_45 + 1, x43, x44, C45 => obd (xgr C45 (xis 0) a0 7) (fun ad47 => obd (xgi C45 (xis 4) ad47 0) (fun v48 => (if v48 ≤ x44 then k93_41 x43 C45 else obd (xgr C45 (xis 0) a0 4) (fun ad49 => obd (xar C45 5 ad49 x44) (fun ad50 => (xcl C45 ad50 = some 2 ∧ x_X2_isThere ad50 C45 (fun r52 C51 => jn (fun (x54 : Int32) (C55 : XH) => x_X0_goesRace_l53 a0 k93_41 n53_45 x54 (x44 + 1) C55) (fun k87_55 => (if r52 = 0 then obd (xgr C51 (xis 0) a0 4) (fun ad56 => obd (xar C51 5 ad56 x44) (fun ad57 => (xcl C51 ad57 = some 2 ∧ x_X2_passesDrawn ad57 C51 (fun C58 => k87_55 1 C58)))) else k87_55 x43 C51)))))))))
theorem x_X0_goesRace_l53_s (a0 : Nat) (k93_41 : Int32 → XH → Prop) (n53_45 : Nat) (x43 : Int32) (x44 : Int32) (C45 : XH) : x_X0_goesRace_l53 a0 k93_41 (n53_45 + 1) x43 x44 C45 = (obd (xgr C45 (xis 0) a0 7) (fun ad47 => obd (xgi C45 (xis 4) ad47 0) (fun v48 => (if v48 ≤ x44 then k93_41 x43 C45 else obd (xgr C45 (xis 0) a0 4) (fun ad49 => obd (xar C45 5 ad49 x44) (fun ad50 => (xcl C45 ad50 = some 2 ∧ x_X2_isThere ad50 C45 (fun r52 C51 => jn (fun (x54 : Int32) (C55 : XH) => x_X0_goesRace_l53 a0 k93_41 n53_45 x54 (x44 + 1) C55) (fun k87_55 => (if r52 = 0 then obd (xgr C51 (xis 0) a0 4) (fun ad56 => obd (xar C51 5 ad56 x44) (fun ad57 => (xcl C51 ad57 = some 2 ∧ x_X2_passesDrawn ad57 C51 (fun C58 => k87_55 1 C58)))) else k87_55 x43 C51)))))))))) := rfl
def x_X0_goesRace_l38 (a0 : Nat) (k99_3 : XH → Prop) : Nat → Int32 → Int32 → XH → Prop
  | 0, _, _, _ => False
  | n38_38 + 1, x36, x37, C38 => (if 999 ≤ x37 then k99_3 C38 else (if x36 = 0 then k99_3 C38 else jn (fun (x40 : Int32) (C41 : XH) => x_X0_goesRace_l38 a0 k99_3 n38_38 x40 (x37 + 1) C41) (fun k93_41 => x_X0_goesRace_l53 a0 k93_41 NF 0 0 C38)))
theorem x_X0_goesRace_l38_s (a0 : Nat) (k99_3 : XH → Prop) (n38_38 : Nat) (x36 : Int32) (x37 : Int32) (C38 : XH) : x_X0_goesRace_l38 a0 k99_3 (n38_38 + 1) x36 x37 C38 = ((if 999 ≤ x37 then k99_3 C38 else (if x36 = 0 then k99_3 C38 else jn (fun (x40 : Int32) (C41 : XH) => x_X0_goesRace_l38 a0 k99_3 n38_38 x40 (x37 + 1) C41) (fun k93_41 => x_X0_goesRace_l53 a0 k93_41 NF 0 0 C38)))) := rfl
def x_X0_goesRace_l2 (a0 : Nat) (k34_1 : XH → Prop) : Nat → Int32 → XH → Prop
  | 0, _, _ => False
  | n2_65 + 1, x64, C65 => obd (xgr C65 (xis 0) a0 7) (fun ad67 => obd (xgi C65 (xis 4) ad67 0) (fun v68 => (if v68 ≤ x64 then k34_1 C65 else obd (xgr C65 (xis 0) a0 4) (fun ad69 => obd (xar C65 5 ad69 x64) (fun ad70 => obd (xgr C65 (xis 0) a0 7) (fun ad71 => (xcl C65 ad70 = some 2 ∧ x_X2_of ad70 ad71 x64 C65 (fun ad73 C72 => x_X0_goesRace_l2 a0 k34_1 n2_65 (x64 + 1) C72))))))))
theorem x_X0_goesRace_l2_s (a0 : Nat) (k34_1 : XH → Prop) (n2_65 : Nat) (x64 : Int32) (C65 : XH) : x_X0_goesRace_l2 a0 k34_1 (n2_65 + 1) x64 C65 = (obd (xgr C65 (xis 0) a0 7) (fun ad67 => obd (xgi C65 (xis 4) ad67 0) (fun v68 => (if v68 ≤ x64 then k34_1 C65 else obd (xgr C65 (xis 0) a0 4) (fun ad69 => obd (xar C65 5 ad69 x64) (fun ad70 => obd (xgr C65 (xis 0) a0 7) (fun ad71 => (xcl C65 ad70 = some 2 ∧ x_X2_of ad70 ad71 x64 C65 (fun ad73 C72 => x_X0_goesRace_l2 a0 k34_1 n2_65 (x64 + 1) C72))))))))) := rfl
def x_X0_goesRace (a0 : Nat) (C : XH) (K : Int32 → XH → Prop) : Prop := jn (fun (C1 : XH) => jn (fun (C3 : XH) => jn (fun (x5 : Int32) (C6 : XH) => obd (xgr C6 (xis 0) a0 7) (fun ad8 => obd (xgi C6 (xis 4) ad8 2) (fun v9 => obd (xpv C6 (xis 4) ad8 2 (.int (v9 + 1))) (fun C10 => (if x5 = (-1) then K x5 C10 else obd (xgr C10 (xis 0) a0 7) (fun ad11 => obd (xgr C10 (xis 4) ad11 10) (fun ad12 => obd (xai C10 0 ad12 x5) (fun v13 => obd (xsi C10 ad12 x5 (v13 + 1)) (fun C14 => K x5 C14))))))))) (fun k162_6 => x_X0_goesRace_l108 a0 k162_6 NF (-1) 999 0 C3)) (fun k99_3 => x_X0_goesRace_l38 a0 k99_3 NF 1 0 C1)) (fun k34_1 => x_X0_goesRace_l2 a0 k34_1 NF 0 C)
theorem iX0_goesRace : xInf yX0_goesRace cX0_goesRace 5 (some .int) 0 := ⟨q1348, by decide +kernel⟩
set_option maxHeartbeats 4000000 in
theorem xet_X0_goesRace (l : Launch) (a0 : Nat) (C : XH) (K : Int32 → XH → Prop) (hs : x_X0_goesRace a0 C K) : xMeti l yX0_goesRace (ws_ yX0_goesRace cX0_goesRace 5 (some .int)) 8 182 0 0 C [.ref a0] K := by
  intro D dT adK adV sz
  refine xEnter (own := RX0) (Qc := xQi D dT K) (by decide) rfl (by rfl) ?_
  intro p e s m args below meth c A ls X hnm hK hA hG hI hl
  have hx := X.1
  have hb := X.2.1
  have hts := X.2.2.2.2.1
  have hown := X.2.2.2.2.2.1
  have hl : lv_has ls 5 [(0, .ref a0)] := hl
  unfold x_X0_goesRace at hs
  refine lv_iconst (v := 0) hx hb dX0_goesRace_0 (by decide) ?_
  refine lv_istore_n (lv' := [(1, .int 0), (0, .ref a0)]) hx hb dX0_goesRace_1 rfl hl (by decide) rfl (fun ls hl => ?_)
  obtain ⟨k34_1, hk34_1, hs⟩ := jn_ex hs
  have Ek34_1 : ∀ (C1 : XH) (H : Heap) (locs : List Loc) (ls : Array Slot), k34_1 C1 → xI D dT A s.heap C1 H locs → lv_has ls 5 [(0, .ref a0)] → W p l e (xRm 8 182 0 0) s m args below meth c H locs 0 0 (MQ below (xQi D dT K A) args s 0 0 A) (F0 m 34 ls []) := by
    intro C1 H locs ls hs hI hl
    rw [hk34_1] at hs
    refine lv_iconst (v := 1) hx hb dX0_goesRace_34 (by decide) ?_
    refine lv_istore_n (lv' := [(1, .int 1), (0, .ref a0)]) hx hb dX0_goesRace_35 rfl hl (by decide) rfl (fun ls hl => ?_)
    refine lv_iconst (v := 0) hx hb dX0_goesRace_36 (by decide) ?_
    refine lv_istore_n (lv' := [(2, .int 0), (1, .int 1), (0, .ref a0)]) hx hb dX0_goesRace_37 rfl hl (by decide) rfl (fun ls hl => ?_)
    obtain ⟨k99_3, hk99_3, hs⟩ := jn_ex hs
    have Ek99_3 : ∀ (C3 : XH) (H : Heap) (locs : List Loc) (ls : Array Slot), k99_3 C3 → xI D dT A s.heap C3 H locs → lv_has ls 5 [(0, .ref a0)] → W p l e (xRm 8 182 0 0) s m args below meth c H locs 0 0 (MQ below (xQi D dT K A) args s 0 0 A) (F0 m 99 ls []) := by
      intro C3 H locs ls hs hI hl
      rw [hk99_3] at hs
      refine lv_iconst (v := (-1)) hx hb dX0_goesRace_99 (by decide) ?_
      refine lv_istore_n (lv' := [(2, .int (-1)), (0, .ref a0)]) hx hb dX0_goesRace_100 rfl hl (by decide) rfl (fun ls hl => ?_)
      refine lv_sipush (v := 999) hx hb dX0_goesRace_101 (by decide) ?_
      refine lv_istore_n (lv' := [(3, .int 999), (2, .int (-1)), (0, .ref a0)]) hx hb dX0_goesRace_104 rfl hl (by decide) rfl (fun ls hl => ?_)
      refine lv_iconst (v := 0) hx hb dX0_goesRace_105 (by decide) ?_
      refine lv_istore (lv' := [(4, .int 0), (3, .int 999), (2, .int (-1)), (0, .ref a0)]) hx hb dX0_goesRace_106 hl (by decide) rfl (fun ls hl => ?_)
      obtain ⟨k162_6, hk162_6, hs⟩ := jn_ex hs
      have Ek162_6 : ∀ (x5 : Int32) (C6 : XH) (H : Heap) (locs : List Loc) (ls : Array Slot), k162_6 x5 C6 → xI D dT A s.heap C6 H locs → lv_has ls 5 [(0, .ref a0), (2, .int x5)] → W p l e (xRm 8 182 0 0) s m args below meth c H locs 0 0 (MQ below (xQi D dT K A) args s 0 0 A) (F0 m 162 ls []) := by
        intro x5 C6 H locs ls hs hI hl
        rw [hk162_6] at hs
        refine lv_aload_n hx hb dX0_goesRace_162 rfl (lv_at hl 0 rfl) ?_
        obtain ⟨ad8, ead8, hs⟩ := hs
        refine x_get (v := .ref ad8) X hK hI 0 7 rfl in_X0 rfl q335 rfl (xgr_spec ead8) dX0_goesRace_163 ?_
        refine lv_dup hx hb dX0_goesRace_166 rfl ?_
        obtain ⟨v9, ev9, hs⟩ := hs
        refine x_get (v := .int v9) X hK hI 4 2 rfl in_X4 rfl q259 rfl (xgi_spec ev9) dX0_goesRace_167 ?_
        refine lv_iconst (v := 1) hx hb dX0_goesRace_170 (by decide) ?_
        refine lv_iadd hx hb dX0_goesRace_171 ?_
        obtain ⟨C10, eC10, hs⟩ := hs
        refine x_put X hK hI 4 2 rfl in_X4 tyX4 tyX4_ok nmX4 rfl q259 rfl rfl rfl rfl eC10 dX0_goesRace_172 (fun H locs hI => ?_)
        refine lv_iload_n hx hb dX0_goesRace_175 rfl (lv_at hl 1 rfl) ?_
        refine lv_iconst (v := (-1)) hx hb dX0_goesRace_176 (by decide) ?_
        refine lv_icmp_eq (tgt := 193) hx hb dX0_goesRace_177 (by decide) (fun c14 => ?_) (fun c14 => ?_)
        · replace hs := ifp c14 hs
          refine lv_iload_n hx hb dX0_goesRace_193 rfl (lv_at hl 1 rfl) ?_
          exact x_reti X hK hI hs (Nat.le_of_ble_eq_true rfl) (Nat.le_of_ble_eq_true rfl) dX0_goesRace_194
        · replace hs := ifn c14 hs
          refine lv_aload_n hx hb dX0_goesRace_180 rfl (lv_at hl 0 rfl) ?_
          obtain ⟨ad11, ead11, hs⟩ := hs
          refine x_get (v := .ref ad11) X hK hI 0 7 rfl in_X0 rfl q335 rfl (xgr_spec ead11) dX0_goesRace_181 ?_
          obtain ⟨ad12, ead12, hs⟩ := hs
          refine x_get (v := .ref ad12) X hK hI 4 10 rfl in_X4 rfl q286 rfl (xgr_spec ead12) dX0_goesRace_184 ?_
          refine lv_iload_n hx hb dX0_goesRace_187 rfl (lv_at hl 1 rfl) ?_
          refine lv_dup2_11 hx hb dX0_goesRace_188 rfl rfl ?_
          obtain ⟨v13, ev13, hs⟩ := hs
          refine x_iald X hK hI ev13 dX0_goesRace_189 ?_
          refine lv_iconst (v := 1) hx hb dX0_goesRace_190 (by decide) ?_
          refine lv_iadd hx hb dX0_goesRace_191 ?_
          obtain ⟨C14, eC14, hs⟩ := hs
          refine x_iast X hK hI eC14 dX0_goesRace_192 (fun H locs hI => ?_)
          refine lv_iload_n hx hb dX0_goesRace_193 rfl (lv_at hl 1 rfl) ?_
          exact x_reti X hK hI hs (Nat.le_of_ble_eq_true rfl) (Nat.le_of_ble_eq_true rfl) dX0_goesRace_194
      have Lx_X0_goesRace_l108 : ∀ (n108_19 : Nat) (x16 : Int32) (x17 : Int32) (x18 : Int32) (C19 : XH) (H : Heap) (locs : List Loc) (ls : Array Slot), x_X0_goesRace_l108 a0 k162_6 n108_19 x16 x17 x18 C19 → xI D dT A s.heap C19 H locs → lv_has ls 5 [(0, .ref a0), (2, .int x16), (3, .int x17), (4, .int x18)] → W p l e (xRm 8 182 0 0) s m args below meth c H locs 0 0 (MQ below (xQi D dT K A) args s 0 0 A) (F0 m 108 ls []) := by
        intro n108_19
        induction n108_19 with
        | zero =>
          intro x16 x17 x18 C19 H locs ls hs
          exact False.elim hs
        | succ n108_19 ihx_X0_goesRace_l108 =>
          intro x16 x17 x18 C19 H locs ls hs hI hl
          rw [x_X0_goesRace_l108_s] at hs
          refine lv_iload hx hb dX0_goesRace_108 (lv_at hl 3 rfl) ?_
          refine lv_aload_n hx hb dX0_goesRace_110 rfl (lv_at hl 0 rfl) ?_
          obtain ⟨ad21, ead21, hs⟩ := hs
          refine x_get (v := .ref ad21) X hK hI 0 7 rfl in_X0 rfl q335 rfl (xgr_spec ead21) dX0_goesRace_111 ?_
          obtain ⟨v22, ev22, hs⟩ := hs
          refine x_get (v := .int v22) X hK hI 4 0 rfl in_X4 rfl q252 rfl (xgi_spec ev22) dX0_goesRace_114 ?_
          refine lv_icmp_ge (tgt := 162) hx hb dX0_goesRace_117 (by decide) (fun c34 => ?_) (fun c34 => ?_)
          · replace hs := ifp c34 hs
            exact Ek162_6 _ _ _ _ _ hs hI (lv_sub hl [0, 1] rfl)
          · replace hs := ifn c34 hs
            refine lv_aload_n hx hb dX0_goesRace_120 rfl (lv_at hl 0 rfl) ?_
            obtain ⟨ad23, ead23, hs⟩ := hs
            refine x_get (v := .ref ad23) X hK hI 0 4 rfl in_X0 rfl q332 rfl (xgr_spec ead23) dX0_goesRace_121 ?_
            refine lv_iload hx hb dX0_goesRace_124 (lv_at hl 3 rfl) ?_
            obtain ⟨ad24, ead24, hs⟩ := hs
            refine x_aald X hK hI 5 rfl rfl ead24 dX0_goesRace_126 ?_
            obtain ⟨h26, hs⟩ := hs
            obtain ⟨fh26, h26⟩ := xcl_spec h26
            refine x_goi hA hI (x_runV (As := []) (rest := []) X hK hA hG hI h26 (q := (RX2, TX2, 12)) rfl rfl (xet_X2_time l ad24 _ _ hs) iX2_time q1359 q1203 q1204 q96 ⟨(Nat.le_of_ble_eq_true rfl), (Nat.le_of_ble_eq_true rfl)⟩ rfl hl.1 rfl (Nat.le_of_ble_eq_true rfl) dX0_goesRace_127 ⟨(Nat.le_of_ble_eq_true rfl), (Nat.le_of_ble_eq_true rfl)⟩) (fun r26 C25 H locs hs9 hI => ?_)
            replace hs := hs9
            refine lv_iload_n hx hb dX0_goesRace_130 rfl (lv_at hl 2 rfl) ?_
            obtain ⟨k140_28, hk140_28, hs⟩ := jn_ex hs
            have Ek140_28 : ∀ (v28 : Int32) (H : Heap) (locs : List Loc) (ls : Array Slot), k140_28 v28 → xI D dT A s.heap C25 H locs → lv_has ls 5 [(0, .ref a0), (3, .int x17), (4, .int x18)] → W p l e (xRm 8 182 0 0) s m args below meth c H locs 0 0 (MQ below (xQi D dT K A) args s 0 0 A) (F0 m 140 ls [.int v28]) := by
              intro v28 H locs ls hs hI hl
              rw [hk140_28] at hs
              refine lv_istore_n (lv' := [(2, .int v28), (0, .ref a0), (3, .int x17), (4, .int x18)]) hx hb dX0_goesRace_140 rfl hl (by decide) rfl (fun ls hl => ?_)
              refine lv_iload_n hx hb dX0_goesRace_141 rfl (lv_at hl 2 rfl) ?_
              refine lv_aload_n hx hb dX0_goesRace_142 rfl (lv_at hl 1 rfl) ?_
              obtain ⟨ad29, ead29, hs⟩ := hs
              refine x_get (v := .ref ad29) X hK hI 0 4 rfl in_X0 rfl q332 rfl (xgr_spec ead29) dX0_goesRace_143 ?_
              refine lv_iload hx hb dX0_goesRace_146 (lv_at hl 3 rfl) ?_
              obtain ⟨ad30, ead30, hs⟩ := hs
              refine x_aald X hK hI 5 rfl rfl ead30 dX0_goesRace_148 ?_
              obtain ⟨h32, hs⟩ := hs
              obtain ⟨fh32, h32⟩ := xcl_spec h32
              refine x_goi hA hI (x_runV (As := []) (rest := [.int x17]) X hK hA hG hI h32 (q := (RX2, TX2, 12)) rfl rfl (xet_X2_time l ad30 _ _ hs) iX2_time q1359 q1203 q1204 q96 ⟨(Nat.le_of_ble_eq_true rfl), (Nat.le_of_ble_eq_true rfl)⟩ rfl hl.1 rfl (Nat.le_of_ble_eq_true rfl) dX0_goesRace_149 ⟨(Nat.le_of_ble_eq_true rfl), (Nat.le_of_ble_eq_true rfl)⟩) (fun r32 C31 H locs hs9 hI => ?_)
              replace hs := hs9
              refine va_mmin (rest := []) hx hb (X.2.2.2.1.trans hl.1.symm) hown (hts _ q1360) (hts _ q1175) (hts _ q116) (hts _ q1176) (Nat.le_of_ble_eq_true rfl) (Nat.le_of_ble_eq_true rfl) (Nat.le_of_ble_eq_true rfl) (Nat.le_of_ble_eq_true rfl) dX0_goesRace_152 ?_
              refine lv_istore_n (lv' := [(3, .int (imin x17 r32)), (2, .int v28), (0, .ref a0), (4, .int x18)]) hx hb dX0_goesRace_155 rfl hl (by decide) rfl (fun ls hl => ?_)
              refine lv_iinc (v := (x18 + 1)) (lv' := [(4, .int (x18 + 1)), (3, .int (imin x17 r32)), (2, .int v28), (0, .ref a0)]) hx hb dX0_goesRace_156 hl (k := 3) rfl (congrArg (fun z => x18 + z) (show Int32.ofInt (1) = 1 by decide)) (by decide) rfl (fun ls hl => ?_)
              refine lv_goto (tgt := 108) hx hb dX0_goesRace_159 (by decide) ?_
              exact ihx_X0_goesRace_l108 _ _ _ _ _ _ _ hs hI (lv_sub hl [3, 2, 1, 0] rfl)
            refine lv_icmp_ge (tgt := 139) hx hb dX0_goesRace_131 (by decide) (fun c33 => ?_) (fun c33 => ?_)
            · replace hs := ifp c33 hs
              refine lv_iload_n hx hb dX0_goesRace_139 rfl (lv_at hl 1 rfl) ?_
              exact Ek140_28 _ _ _ _ hs hI (lv_sub hl [0, 2, 3] rfl)
            · replace hs := ifn c33 hs
              refine lv_iload hx hb dX0_goesRace_134 (lv_at hl 3 rfl) ?_
              refine lv_goto (tgt := 140) hx hb dX0_goesRace_136 (by decide) ?_
              exact Ek140_28 _ _ _ _ hs hI (lv_sub hl [0, 2, 3] rfl)
      exact Lx_X0_goesRace_l108 NF _ _ _ _ _ _ _ hs hI (lv_sub hl [3, 2, 1, 0] rfl)
    have Lx_X0_goesRace_l38 : ∀ (n38_38 : Nat) (x36 : Int32) (x37 : Int32) (C38 : XH) (H : Heap) (locs : List Loc) (ls : Array Slot), x_X0_goesRace_l38 a0 k99_3 n38_38 x36 x37 C38 → xI D dT A s.heap C38 H locs → lv_has ls 5 [(0, .ref a0), (1, .int x36), (2, .int x37)] → W p l e (xRm 8 182 0 0) s m args below meth c H locs 0 0 (MQ below (xQi D dT K A) args s 0 0 A) (F0 m 38 ls []) := by
      intro n38_38
      induction n38_38 with
      | zero =>
        intro x36 x37 C38 H locs ls hs
        exact False.elim hs
      | succ n38_38 ihx_X0_goesRace_l38 =>
        intro x36 x37 C38 H locs ls hs hI hl
        rw [x_X0_goesRace_l38_s] at hs
        refine lv_iload_n hx hb dX0_goesRace_38 rfl (lv_at hl 2 rfl) ?_
        refine lv_sipush (v := 999) hx hb dX0_goesRace_39 (by decide) ?_
        refine lv_icmp_ge (tgt := 99) hx hb dX0_goesRace_42 (by decide) (fun c62 => ?_) (fun c62 => ?_)
        · replace hs := ifp c62 hs
          exact Ek99_3 _ _ _ _ hs hI (lv_sub hl [0] rfl)
        · replace hs := ifn c62 hs
          refine lv_iload_n hx hb dX0_goesRace_45 rfl (lv_at hl 1 rfl) ?_
          refine lv_if_eq (tgt := 99) hx hb dX0_goesRace_46 (by decide) (fun c61 => ?_) (fun c61 => ?_)
          · replace hs := ifp c61 hs
            exact Ek99_3 _ _ _ _ hs hI (lv_sub hl [0] rfl)
          · replace hs := ifn c61 hs
            refine lv_iconst (v := 0) hx hb dX0_goesRace_49 (by decide) ?_
            refine lv_istore_n (lv' := [(1, .int 0), (0, .ref a0), (2, .int x37)]) hx hb dX0_goesRace_50 rfl hl (by decide) rfl (fun ls hl => ?_)
            refine lv_iconst (v := 0) hx hb dX0_goesRace_51 (by decide) ?_
            refine lv_istore_n (lv' := [(3, .int 0), (1, .int 0), (0, .ref a0), (2, .int x37)]) hx hb dX0_goesRace_52 rfl hl (by decide) rfl (fun ls hl => ?_)
            obtain ⟨k93_41, hk93_41, hs⟩ := jn_ex hs
            have Ek93_41 : ∀ (x40 : Int32) (C41 : XH) (H : Heap) (locs : List Loc) (ls : Array Slot), k93_41 x40 C41 → xI D dT A s.heap C41 H locs → lv_has ls 5 [(0, .ref a0), (1, .int x40), (2, .int x37)] → W p l e (xRm 8 182 0 0) s m args below meth c H locs 0 0 (MQ below (xQi D dT K A) args s 0 0 A) (F0 m 93 ls []) := by
              intro x40 C41 H locs ls hs hI hl
              rw [hk93_41] at hs
              refine lv_iinc (v := (x37 + 1)) (lv' := [(2, .int (x37 + 1)), (0, .ref a0), (1, .int x40)]) hx hb dX0_goesRace_93 hl (k := 2) rfl (congrArg (fun z => x37 + z) (show Int32.ofInt (1) = 1 by decide)) (by decide) rfl (fun ls hl => ?_)
              refine lv_goto (tgt := 38) hx hb dX0_goesRace_96 (by decide) ?_
              exact ihx_X0_goesRace_l38 _ _ _ _ _ _ hs hI (lv_sub hl [1, 2, 0] rfl)
            have Lx_X0_goesRace_l53 : ∀ (n53_45 : Nat) (x43 : Int32) (x44 : Int32) (C45 : XH) (H : Heap) (locs : List Loc) (ls : Array Slot), x_X0_goesRace_l53 a0 k93_41 n53_45 x43 x44 C45 → xI D dT A s.heap C45 H locs → lv_has ls 5 [(0, .ref a0), (1, .int x43), (2, .int x37), (3, .int x44)] → W p l e (xRm 8 182 0 0) s m args below meth c H locs 0 0 (MQ below (xQi D dT K A) args s 0 0 A) (F0 m 53 ls []) := by
              intro n53_45
              induction n53_45 with
              | zero =>
                intro x43 x44 C45 H locs ls hs
                exact False.elim hs
              | succ n53_45 ihx_X0_goesRace_l53 =>
                intro x43 x44 C45 H locs ls hs hI hl
                rw [x_X0_goesRace_l53_s] at hs
                refine lv_iload_n hx hb dX0_goesRace_53 rfl (lv_at hl 3 rfl) ?_
                refine lv_aload_n hx hb dX0_goesRace_54 rfl (lv_at hl 0 rfl) ?_
                obtain ⟨ad47, ead47, hs⟩ := hs
                refine x_get (v := .ref ad47) X hK hI 0 7 rfl in_X0 rfl q335 rfl (xgr_spec ead47) dX0_goesRace_55 ?_
                obtain ⟨v48, ev48, hs⟩ := hs
                refine x_get (v := .int v48) X hK hI 4 0 rfl in_X4 rfl q252 rfl (xgi_spec ev48) dX0_goesRace_58 ?_
                refine lv_icmp_ge (tgt := 93) hx hb dX0_goesRace_61 (by decide) (fun c60 => ?_) (fun c60 => ?_)
                · replace hs := ifp c60 hs
                  exact Ek93_41 _ _ _ _ _ hs hI (lv_sub hl [0, 1, 2] rfl)
                · replace hs := ifn c60 hs
                  refine lv_aload_n hx hb dX0_goesRace_64 rfl (lv_at hl 0 rfl) ?_
                  obtain ⟨ad49, ead49, hs⟩ := hs
                  refine x_get (v := .ref ad49) X hK hI 0 4 rfl in_X0 rfl q332 rfl (xgr_spec ead49) dX0_goesRace_65 ?_
                  refine lv_iload_n hx hb dX0_goesRace_68 rfl (lv_at hl 3 rfl) ?_
                  obtain ⟨ad50, ead50, hs⟩ := hs
                  refine x_aald X hK hI 5 rfl rfl ead50 dX0_goesRace_69 ?_
                  obtain ⟨h52, hs⟩ := hs
                  obtain ⟨fh52, h52⟩ := xcl_spec h52
                  refine x_goz hA hI (x_runV (As := []) (rest := []) X hK hA hG hI h52 (q := (RX2, TX2, 12)) rfl rfl (xet_X2_isThere l ad50 _ _ hs) iX2_isThere q1349 q1159 q1160 q96 ⟨(Nat.le_of_ble_eq_true rfl), (Nat.le_of_ble_eq_true rfl)⟩ rfl hl.1 rfl (Nat.le_of_ble_eq_true rfl) dX0_goesRace_70 ⟨(Nat.le_of_ble_eq_true rfl), (Nat.le_of_ble_eq_true rfl)⟩) (fun r52 C51 H locs br52 hs9 hI => ?_)
                  replace hs := hs9
                  obtain ⟨k87_55, hk87_55, hs⟩ := jn_ex hs
                  have Ek87_55 : ∀ (x54 : Int32) (C55 : XH) (H : Heap) (locs : List Loc) (ls : Array Slot), k87_55 x54 C55 → xI D dT A s.heap C55 H locs → lv_has ls 5 [(0, .ref a0), (1, .int x54), (2, .int x37), (3, .int x44)] → W p l e (xRm 8 182 0 0) s m args below meth c H locs 0 0 (MQ below (xQi D dT K A) args s 0 0 A) (F0 m 87 ls []) := by
                    intro x54 C55 H locs ls hs hI hl
                    rw [hk87_55] at hs
                    refine lv_iinc (v := (x44 + 1)) (lv' := [(3, .int (x44 + 1)), (0, .ref a0), (1, .int x54), (2, .int x37)]) hx hb dX0_goesRace_87 hl (k := 3) rfl (congrArg (fun z => x44 + z) (show Int32.ofInt (1) = 1 by decide)) (by decide) rfl (fun ls hl => ?_)
                    refine lv_goto (tgt := 53) hx hb dX0_goesRace_90 (by decide) ?_
                    exact ihx_X0_goesRace_l53 _ _ _ _ _ _ hs hI (lv_sub hl [1, 2, 3, 0] rfl)
                  refine lv_if_ne (tgt := 87) hx hb dX0_goesRace_73 (by decide) (fun c59 => ?_) (fun c59 => ?_)
                  · replace hs := ifn c59 hs
                    exact Ek87_55 _ _ _ _ _ hs hI hl
                  · replace hs := ifp c59 hs
                    refine lv_aload_n hx hb dX0_goesRace_76 rfl (lv_at hl 0 rfl) ?_
                    obtain ⟨ad56, ead56, hs⟩ := hs
                    refine x_get (v := .ref ad56) X hK hI 0 4 rfl in_X0 rfl q332 rfl (xgr_spec ead56) dX0_goesRace_77 ?_
                    refine lv_iload_n hx hb dX0_goesRace_80 rfl (lv_at hl 3 rfl) ?_
                    obtain ⟨ad57, ead57, hs⟩ := hs
                    refine x_aald X hK hI 5 rfl rfl ead57 dX0_goesRace_81 ?_
                    obtain ⟨h58, hs⟩ := hs
                    obtain ⟨fh58, h58⟩ := xcl_spec h58
                    refine x_gov hA hI (x_runV (As := []) (rest := []) X hK hA hG hI h58 (q := (RX2, TX2, 12)) rfl rfl (xet_X2_passesDrawn l ad57 _ _ hs) iX2_passesDrawn q1350 q1351 q1352 q96 ⟨(Nat.le_of_ble_eq_true rfl), (Nat.le_of_ble_eq_true rfl)⟩ rfl hl.1 rfl (Nat.le_of_ble_eq_true rfl) dX0_goesRace_82 ⟨(Nat.le_of_ble_eq_true rfl), (Nat.le_of_ble_eq_true rfl)⟩) (fun C58 H locs hs9 hI => ?_)
                    replace hs := hs9
                    refine lv_iconst (v := 1) hx hb dX0_goesRace_85 (by decide) ?_
                    refine lv_istore_n (lv' := [(1, .int 1), (0, .ref a0), (2, .int x37), (3, .int x44)]) hx hb dX0_goesRace_86 rfl hl (by decide) rfl (fun ls hl => ?_)
                    exact Ek87_55 _ _ _ _ _ hs hI (lv_sub hl [1, 0, 2, 3] rfl)
            exact Lx_X0_goesRace_l53 NF _ _ _ _ _ _ hs hI (lv_sub hl [2, 1, 3, 0] rfl)
    exact Lx_X0_goesRace_l38 NF _ _ _ _ _ _ hs hI (lv_sub hl [2, 1, 0] rfl)
  have Lx_X0_goesRace_l2 : ∀ (n2_65 : Nat) (x64 : Int32) (C65 : XH) (H : Heap) (locs : List Loc) (ls : Array Slot), x_X0_goesRace_l2 a0 k34_1 n2_65 x64 C65 → xI D dT A s.heap C65 H locs → lv_has ls 5 [(0, .ref a0), (1, .int x64)] → W p l e (xRm 8 182 0 0) s m args below meth c H locs 0 0 (MQ below (xQi D dT K A) args s 0 0 A) (F0 m 2 ls []) := by
    intro n2_65
    induction n2_65 with
    | zero =>
      intro x64 C65 H locs ls hs
      exact False.elim hs
    | succ n2_65 ihx_X0_goesRace_l2 =>
      intro x64 C65 H locs ls hs hI hl
      rw [x_X0_goesRace_l2_s] at hs
      refine lv_iload_n hx hb dX0_goesRace_2 rfl (lv_at hl 1 rfl) ?_
      refine lv_aload_n hx hb dX0_goesRace_3 rfl (lv_at hl 0 rfl) ?_
      obtain ⟨ad67, ead67, hs⟩ := hs
      refine x_get (v := .ref ad67) X hK hI 0 7 rfl in_X0 rfl q335 rfl (xgr_spec ead67) dX0_goesRace_4 ?_
      obtain ⟨v68, ev68, hs⟩ := hs
      refine x_get (v := .int v68) X hK hI 4 0 rfl in_X4 rfl q252 rfl (xgi_spec ev68) dX0_goesRace_7 ?_
      refine lv_icmp_ge (tgt := 34) hx hb dX0_goesRace_10 (by decide) (fun c74 => ?_) (fun c74 => ?_)
      · replace hs := ifp c74 hs
        exact Ek34_1 _ _ _ _ hs hI (lv_sub hl [0] rfl)
      · replace hs := ifn c74 hs
        refine lv_aload_n hx hb dX0_goesRace_13 rfl (lv_at hl 0 rfl) ?_
        obtain ⟨ad69, ead69, hs⟩ := hs
        refine x_get (v := .ref ad69) X hK hI 0 4 rfl in_X0 rfl q332 rfl (xgr_spec ead69) dX0_goesRace_14 ?_
        refine lv_iload_n hx hb dX0_goesRace_17 rfl (lv_at hl 1 rfl) ?_
        obtain ⟨ad70, ead70, hs⟩ := hs
        refine x_aald X hK hI 5 rfl rfl ead70 dX0_goesRace_18 ?_
        refine lv_aload_n hx hb dX0_goesRace_19 rfl (lv_at hl 0 rfl) ?_
        obtain ⟨ad71, ead71, hs⟩ := hs
        refine x_get (v := .ref ad71) X hK hI 0 7 rfl in_X0 rfl q335 rfl (xgr_spec ead71) dX0_goesRace_20 ?_
        refine lv_iload_n hx hb dX0_goesRace_23 rfl (lv_at hl 1 rfl) ?_
        obtain ⟨h73, hs⟩ := hs
        obtain ⟨fh73, h73⟩ := xcl_spec h73
        refine x_gor hA hI (x_runV (As := [.ref ad71, .int x64]) (rest := []) X hK hA hG hI h73 (q := (RX2, TX2, 12)) rfl rfl (xet_X2_of l ad70 ad71 x64 _ _ hs) iX2_of q1136 q1137 q1138 q96 ⟨(Nat.le_of_ble_eq_true rfl), (Nat.le_of_ble_eq_true rfl)⟩ rfl hl.1 rfl (Nat.le_of_ble_eq_true rfl) dX0_goesRace_24 ⟨(Nat.le_of_ble_eq_true rfl), (Nat.le_of_ble_eq_true rfl)⟩) (fun ad73 C72 H locs hs9 hI => ?_)
        replace hs := hs9
        refine lv_pop hx hb dX0_goesRace_27 rfl ?_
        refine lv_iinc (v := (x64 + 1)) (lv' := [(1, .int (x64 + 1)), (0, .ref a0)]) hx hb dX0_goesRace_28 hl (k := 1) rfl (congrArg (fun z => x64 + z) (show Int32.ofInt (1) = 1 by decide)) (by decide) rfl (fun ls hl => ?_)
        refine lv_goto (tgt := 2) hx hb dX0_goesRace_31 (by decide) ?_
        exact ihx_X0_goesRace_l2 _ _ _ _ _ hs hI (lv_sub hl [1, 0] rfl)
  exact Lx_X0_goesRace_l2 NF _ _ _ _ _ hs hI (lv_sub hl [1, 0] rfl)
def x_X0_race (a0 : Nat) (C : XH) (K : Int32 → XH → Prop) : Prop := (xcl C a0 = some 0 ∧ x_X0_someChildren a0 C (fun C1 => (xcl C1 a0 = some 0 ∧ x_X0_goesRace a0 C1 (fun r4 C3 => K r4 C3))) (fun ad6 C7 => (xcl C7 a0 = some 0 ∧ x_X0_refused a0 ad6 C7 (fun r9 C8 => K (r9 - 10) C8))))
theorem iX0_race : xInfW yX0_race cX0_race 2 (some .int) [(0, 8, 9, 21)] 0 := ⟨q1344, by decide +kernel⟩
set_option maxHeartbeats 4000000 in
theorem xet_X0_race (l : Launch) (hl0 : l.stackTraces = false) (a0 : Nat) (C : XH) (K : Int32 → XH → Prop) (hs : x_X0_race a0 C K) : xMetX l yX0_race (wsW_ yX0_race cX0_race 2 (some .int) [(0, 8, 9, 21)]) 9 206 1 7 C [.ref a0] (fun D dT A => xQi D dT K A) xE0 := by
  intro D dT adK adV sz
  refine xEnterW (own := RX0) (Qc := xQi D dT K) (XC := xXC D dT xE0) (by decide) rfl (by rfl) ?_
  intro p e s m args below meth c A ls X hnm hK hA hG hT hI hl
  have hx := X.1
  have hb := X.2.1
  have hts := X.2.2.2.2.1
  have hown := X.2.2.2.2.2.1
  have hl : lv_has ls 2 [(0, .ref a0)] := hl
  unfold x_X0_race at hs
  refine lv_aload_n hx hb dX0_race_0 rfl (lv_at hl 0 rfl) ?_
  obtain ⟨h1, hs⟩ := hs
  obtain ⟨fh1, h1⟩ := xcl_spec h1
  refine xT_gov hA hI (x_runVT (As := []) (rest := []) X hK hA hG hI h1 (q := (RX0, TX0, 10)) rfl rfl (xet_X0_someChildren l hl0 a0 _ _ _ hs) iX0_someChildren q1210 q1212 qs24 q94 ⟨(Nat.le_of_ble_eq_true rfl), (Nat.le_of_ble_eq_true rfl)⟩ rfl hl.1 rfl (Nat.le_of_ble_eq_true rfl) dX0_race_1 ⟨(Nat.le_of_ble_eq_true rfl), (Nat.le_of_ble_eq_true rfl)⟩) (fun En ce ad6 C7 H locs hs9 hI hce hvm hcl => ?_) (fun C1 H locs hs9 hI => ?_)
  · obtain ⟨rfl, hs0⟩ := hs9
    replace hs := hs0
    refine x_catch (k := 0) (a1 := 0) (a2 := 8) (a3 := 9) (a4 := 21) X hG hT rfl (x_cov rfl) rfl (by decide) q363 (by decide) hce hvm hcl ?_
    refine lv_astore_n (lv' := [(1, .ref ad6), (0, .ref a0)]) hx hb dX0_race_9 rfl hl (by decide) rfl (fun ls hl => ?_)
    refine lv_aload_n hx hb dX0_race_10 rfl (lv_at hl 1 rfl) ?_
    refine lv_aload_n hx hb dX0_race_11 rfl (lv_at hl 0 rfl) ?_
    obtain ⟨h9, hs⟩ := hs
    obtain ⟨fh9, h9⟩ := xcl_spec h9
    refine x_goi hA hI (x_runV (As := [.ref ad6]) (rest := []) X hK hA hG hI h9 (q := (RX0, TX0, 10)) rfl rfl (xet_X0_refused l a0 ad6 _ _ hs) iX0_refused q538 q540 qs2 q94 ⟨(Nat.le_of_ble_eq_true rfl), (Nat.le_of_ble_eq_true rfl)⟩ rfl hl.1 rfl (Nat.le_of_ble_eq_true rfl) dX0_race_12 ⟨(Nat.le_of_ble_eq_true rfl), (Nat.le_of_ble_eq_true rfl)⟩) (fun r9 C8 H locs hs9 hI => ?_)
    replace hs := hs9
    refine lv_bipush (v := 10) hx hb dX0_race_15 (by decide) ?_
    refine lv_isub hx hb dX0_race_17 ?_
    exact vx_ret (x_reti X hK hI hs (Nat.le_of_ble_eq_true rfl) (Nat.le_of_ble_eq_true rfl) dX0_race_18)
  · replace hs := hs9
    refine lv_aload_n hx hb dX0_race_4 rfl (lv_at hl 0 rfl) ?_
    obtain ⟨h4, hs⟩ := hs
    obtain ⟨fh4, h4⟩ := xcl_spec h4
    refine x_goi hA hI (x_runV (As := []) (rest := []) X hK hA hG hI h4 (q := (RX0, TX0, 10)) rfl rfl (xet_X0_goesRace l a0 _ _ hs) iX0_goesRace q1345 q1347 qs37 q94 ⟨(Nat.le_of_ble_eq_true rfl), (Nat.le_of_ble_eq_true rfl)⟩ rfl hl.1 rfl (Nat.le_of_ble_eq_true rfl) dX0_race_5 ⟨(Nat.le_of_ble_eq_true rfl), (Nat.le_of_ble_eq_true rfl)⟩) (fun r4 C3 H locs hs9 hI => ?_)
    replace hs := hs9
    exact vx_ret (x_reti X hK hI hs (Nat.le_of_ble_eq_true rfl) (Nat.le_of_ble_eq_true rfl) dX0_race_8)
def x_X0_summer_l32 (a0 : Nat) (a1 : Int32) (k49_9 : XH → Prop) : Nat → Int32 → XH → Prop
  | 0, _, _ => False
  | n32_15 + 1, x14, C15 => (if a1 ≤ x14 then k49_9 C15 else (xcl C15 a0 = some 0 ∧ x_X0_goesRace a0 C15 (fun r18 C17 => x_X0_summer_l32 a0 a1 k49_9 n32_15 (x14 + 1) C17)))
theorem x_X0_summer_l32_s (a0 : Nat) (a1 : Int32) (k49_9 : XH → Prop) (n32_15 : Nat) (x14 : Int32) (C15 : XH) : x_X0_summer_l32 a0 a1 k49_9 (n32_15 + 1) x14 C15 = ((if a1 ≤ x14 then k49_9 C15 else (xcl C15 a0 = some 0 ∧ x_X0_goesRace a0 C15 (fun r18 C17 => x_X0_summer_l32 a0 a1 k49_9 n32_15 (x14 + 1) C17)))) := rfl
def x_X0_summer (a0 : Nat) (a1 : Int32) (a2 : Int32) (C : XH) (K : Int32 → XH → Prop) : Prop := (xcl C a0 = some 0 ∧ x_X0_mustChild a0 a2 C (fun C1 => x_X0_in ((a1 : Int32).toInt64) 1 30 C1 (fun r4 C3 => x_X0_need r4 (-6) C3 (fun C5 => obd (xgr C5 (xis 0) a0 7) (fun ad6 => obd (xgr C5 (xis 4) ad6 10) (fun ad7 => obd (xai C5 0 ad7 a2) (fun v8 => jn (fun (C9 : XH) => obd (xgr C9 (xis 0) a0 7) (fun ad11 => obd (xgr C9 (xis 4) ad11 10) (fun ad12 => obd (xai C9 0 ad12 a2) (fun v13 => K (v13 - v8) C9)))) (fun k49_9 => x_X0_summer_l32 a0 a1 k49_9 NF 0 C5))))) (fun ad21 C22 => (xcl C22 a0 = some 0 ∧ x_X0_refused a0 ad21 C22 (fun r24 C23 => K r24 C23))))) (fun ad26 C27 => (xcl C27 a0 = some 0 ∧ x_X0_refused a0 ad26 C27 (fun r29 C28 => K r29 C28))))
theorem iX0_summer : xInfW yX0_summer cX0_summer 5 (some .int) [(0, 60, 61, 21)] 2 := ⟨q1364, by decide +kernel⟩
set_option maxHeartbeats 4000000 in
theorem xet_X0_summer (l : Launch) (hl0 : l.stackTraces = false) (a0 : Nat) (a1 : Int32) (a2 : Int32) (C : XH) (K : Int32 → XH → Prop) (hs : x_X0_summer a0 a1 a2 C K) : xMetX l yX0_summer (wsW_ yX0_summer cX0_summer 5 (some .int) [(0, 60, 61, 21)]) 9 206 2 14 C [.ref a0, .int a1, .int a2] (fun D dT A => xQi D dT K A) xE0 := by
  intro D dT adK adV sz
  refine xEnterW (own := RX0) (Qc := xQi D dT K) (XC := xXC D dT xE0) (by decide) rfl (by rfl) ?_
  intro p e s m args below meth c A ls X hnm hK hA hG hT hI hl
  have hx := X.1
  have hb := X.2.1
  have hts := X.2.2.2.2.1
  have hown := X.2.2.2.2.2.1
  have hl : lv_has ls 5 [(0, .ref a0), (1, .int a1), (2, .int a2)] := hl
  unfold x_X0_summer at hs
  refine lv_aload_n hx hb dX0_summer_0 rfl (lv_at hl 0 rfl) ?_
  refine lv_iload_n hx hb dX0_summer_1 rfl (lv_at hl 2 rfl) ?_
  obtain ⟨h1, hs⟩ := hs
  obtain ⟨fh1, h1⟩ := xcl_spec h1
  refine xT_gov hA hI (x_runVT (As := [.int a2]) (rest := []) X hK hA hG hI h1 (q := (RX0, TX0, 10)) rfl rfl (xet_X0_mustChild l hl0 a0 a2 _ _ _ hs) iX0_mustChild q649 q651 qs3 q94 ⟨(Nat.le_of_ble_eq_true rfl), (Nat.le_of_ble_eq_true rfl)⟩ rfl hl.1 rfl (Nat.le_of_ble_eq_true rfl) dX0_summer_2 ⟨(Nat.le_of_ble_eq_true rfl), (Nat.le_of_ble_eq_true rfl)⟩) (fun En ce ad26 C27 H locs hs9 hI hce hvm hcl => ?_) (fun C1 H locs hs9 hI => ?_)
  · obtain ⟨rfl, hs0⟩ := hs9
    replace hs := hs0
    refine x_catch (k := 0) (a1 := 0) (a2 := 60) (a3 := 61) (a4 := 21) X hG hT rfl (x_cov rfl) rfl (by decide) q363 (by decide) hce hvm hcl ?_
    refine lv_astore_n (lv' := [(3, .ref ad26), (0, .ref a0), (1, .int a1), (2, .int a2)]) hx hb dX0_summer_61 rfl hl (by decide) rfl (fun ls hl => ?_)
    refine lv_aload_n hx hb dX0_summer_62 rfl (lv_at hl 1 rfl) ?_
    refine lv_aload_n hx hb dX0_summer_63 rfl (lv_at hl 0 rfl) ?_
    obtain ⟨h29, hs⟩ := hs
    obtain ⟨fh29, h29⟩ := xcl_spec h29
    refine x_goi hA hI (x_runV (As := [.ref ad26]) (rest := []) X hK hA hG hI h29 (q := (RX0, TX0, 10)) rfl rfl (xet_X0_refused l a0 ad26 _ _ hs) iX0_refused q538 q540 qs2 q94 ⟨(Nat.le_of_ble_eq_true rfl), (Nat.le_of_ble_eq_true rfl)⟩ rfl hl.1 rfl (Nat.le_of_ble_eq_true rfl) dX0_summer_64 ⟨(Nat.le_of_ble_eq_true rfl), (Nat.le_of_ble_eq_true rfl)⟩) (fun r29 C28 H locs hs9 hI => ?_)
    replace hs := hs9
    exact vx_ret (x_reti X hK hI hs (Nat.le_of_ble_eq_true rfl) (Nat.le_of_ble_eq_true rfl) dX0_summer_67)
  · replace hs := hs9
    refine lv_iload_n hx hb dX0_summer_5 rfl (lv_at hl 1 rfl) ?_
    refine lv_i2l (v := ((a1 : Int32).toInt64)) hx hb dX0_summer_6 rfl ?_
    refine lv_lconst (v := 1) hx hb dX0_summer_7 (by decide) ?_
    refine lv_ldc2 hx hb hown (hts _ q1365) dX0_summer_8 ?_
    refine x_goz hA hI (x_runS (As := [.long ((a1 : Int32).toInt64), .long 1, .long 30]) (rest := []) X hK hA hG hI (xet_X0_in l ((a1 : Int32).toInt64) 1 30 _ _ hs) iX0_in q473 q474 q94 ⟨(Nat.le_of_ble_eq_true rfl), (Nat.le_of_ble_eq_true rfl)⟩ rfl hl.1 rfl (Nat.le_of_ble_eq_true rfl) dX0_summer_11 ⟨(Nat.le_of_ble_eq_true rfl), (Nat.le_of_ble_eq_true rfl)⟩) (fun r4 C3 H locs br4 hs9 hI => ?_)
    replace hs := hs9
    refine lv_bipush (v := (-6)) hx hb dX0_summer_14 (by decide) ?_
    refine xT_gov hA hI (x_runST (As := [.int r4, .int (-6)]) (rest := []) X hK hA hG hI (xet_X0_need l hl0 r4 (-6) _ _ _ hs) iX0_need q469 q470 q94 ⟨(Nat.le_of_ble_eq_true rfl), (Nat.le_of_ble_eq_true rfl)⟩ rfl hl.1 rfl (Nat.le_of_ble_eq_true rfl) dX0_summer_16 ⟨(Nat.le_of_ble_eq_true rfl), (Nat.le_of_ble_eq_true rfl)⟩) (fun En ce ad21 C22 H locs hs9 hI hce hvm hcl => ?_) (fun C5 H locs hs9 hI => ?_)
    · obtain ⟨rfl, hs0⟩ := hs9
      replace hs := hs0
      refine x_catch (k := 0) (a1 := 0) (a2 := 60) (a3 := 61) (a4 := 21) X hG hT rfl (x_cov rfl) rfl (by decide) q363 (by decide) hce hvm hcl ?_
      refine lv_astore_n (lv' := [(3, .ref ad21), (0, .ref a0), (1, .int a1), (2, .int a2)]) hx hb dX0_summer_61 rfl hl (by decide) rfl (fun ls hl => ?_)
      refine lv_aload_n hx hb dX0_summer_62 rfl (lv_at hl 1 rfl) ?_
      refine lv_aload_n hx hb dX0_summer_63 rfl (lv_at hl 0 rfl) ?_
      obtain ⟨h24, hs⟩ := hs
      obtain ⟨fh24, h24⟩ := xcl_spec h24
      refine x_goi hA hI (x_runV (As := [.ref ad21]) (rest := []) X hK hA hG hI h24 (q := (RX0, TX0, 10)) rfl rfl (xet_X0_refused l a0 ad21 _ _ hs) iX0_refused q538 q540 qs2 q94 ⟨(Nat.le_of_ble_eq_true rfl), (Nat.le_of_ble_eq_true rfl)⟩ rfl hl.1 rfl (Nat.le_of_ble_eq_true rfl) dX0_summer_64 ⟨(Nat.le_of_ble_eq_true rfl), (Nat.le_of_ble_eq_true rfl)⟩) (fun r24 C23 H locs hs9 hI => ?_)
      replace hs := hs9
      exact vx_ret (x_reti X hK hI hs (Nat.le_of_ble_eq_true rfl) (Nat.le_of_ble_eq_true rfl) dX0_summer_67)
    · replace hs := hs9
      refine lv_aload_n hx hb dX0_summer_19 rfl (lv_at hl 0 rfl) ?_
      obtain ⟨ad6, ead6, hs⟩ := hs
      refine x_get (v := .ref ad6) X hK hI 0 7 rfl in_X0 rfl q335 rfl (xgr_spec ead6) dX0_summer_20 ?_
      obtain ⟨ad7, ead7, hs⟩ := hs
      refine x_get (v := .ref ad7) X hK hI 4 10 rfl in_X4 rfl q286 rfl (xgr_spec ead7) dX0_summer_23 ?_
      refine lv_iload_n hx hb dX0_summer_26 rfl (lv_at hl 2 rfl) ?_
      obtain ⟨v8, ev8, hs⟩ := hs
      refine x_iald X hK hI ev8 dX0_summer_27 ?_
      refine lv_istore_n (lv' := [(3, .int v8), (0, .ref a0), (1, .int a1), (2, .int a2)]) hx hb dX0_summer_28 rfl hl (by decide) rfl (fun ls hl => ?_)
      refine lv_iconst (v := 0) hx hb dX0_summer_29 (by decide) ?_
      refine lv_istore (lv' := [(4, .int 0), (3, .int v8), (0, .ref a0), (1, .int a1), (2, .int a2)]) hx hb dX0_summer_30 hl (by decide) rfl (fun ls hl => ?_)
      obtain ⟨k49_9, hk49_9, hs⟩ := jn_ex hs
      have Ek49_9 : ∀ (C9 : XH) (H : Heap) (locs : List Loc) (ls : Array Slot), k49_9 C9 → xI D dT A s.heap C9 H locs → lv_has ls 5 [(0, .ref a0), (2, .int a2), (3, .int v8)] → W p l e (xRm 9 206 2 14) s m args below meth c H locs 2 14 (vx_MQ below (xQi D dT K A) (xXC D dT xE0 A) args s 2 14 A) (F0 m 49 ls []) := by
        intro C9 H locs ls hs hI hl
        rw [hk49_9] at hs
        refine lv_aload_n hx hb dX0_summer_49 rfl (lv_at hl 0 rfl) ?_
        obtain ⟨ad11, ead11, hs⟩ := hs
        refine x_get (v := .ref ad11) X hK hI 0 7 rfl in_X0 rfl q335 rfl (xgr_spec ead11) dX0_summer_50 ?_
        obtain ⟨ad12, ead12, hs⟩ := hs
        refine x_get (v := .ref ad12) X hK hI 4 10 rfl in_X4 rfl q286 rfl (xgr_spec ead12) dX0_summer_53 ?_
        refine lv_iload_n hx hb dX0_summer_56 rfl (lv_at hl 1 rfl) ?_
        obtain ⟨v13, ev13, hs⟩ := hs
        refine x_iald X hK hI ev13 dX0_summer_57 ?_
        refine lv_iload_n hx hb dX0_summer_58 rfl (lv_at hl 2 rfl) ?_
        refine lv_isub hx hb dX0_summer_59 ?_
        exact vx_ret (x_reti X hK hI hs (Nat.le_of_ble_eq_true rfl) (Nat.le_of_ble_eq_true rfl) dX0_summer_60)
      have Lx_X0_summer_l32 : ∀ (n32_15 : Nat) (x14 : Int32) (C15 : XH) (H : Heap) (locs : List Loc) (ls : Array Slot), x_X0_summer_l32 a0 a1 k49_9 n32_15 x14 C15 → xI D dT A s.heap C15 H locs → lv_has ls 5 [(0, .ref a0), (1, .int a1), (2, .int a2), (3, .int v8), (4, .int x14)] → W p l e (xRm 9 206 2 14) s m args below meth c H locs 2 14 (vx_MQ below (xQi D dT K A) (xXC D dT xE0 A) args s 2 14 A) (F0 m 32 ls []) := by
        intro n32_15
        induction n32_15 with
        | zero =>
          intro x14 C15 H locs ls hs
          exact False.elim hs
        | succ n32_15 ihx_X0_summer_l32 =>
          intro x14 C15 H locs ls hs hI hl
          rw [x_X0_summer_l32_s] at hs
          refine lv_iload hx hb dX0_summer_32 (lv_at hl 4 rfl) ?_
          refine lv_iload_n hx hb dX0_summer_34 rfl (lv_at hl 1 rfl) ?_
          refine lv_icmp_ge (tgt := 49) hx hb dX0_summer_35 (by decide) (fun c19 => ?_) (fun c19 => ?_)
          · replace hs := ifp c19 hs
            exact Ek49_9 _ _ _ _ hs hI (lv_sub hl [0, 2, 3] rfl)
          · replace hs := ifn c19 hs
            refine lv_aload_n hx hb dX0_summer_38 rfl (lv_at hl 0 rfl) ?_
            obtain ⟨h18, hs⟩ := hs
            obtain ⟨fh18, h18⟩ := xcl_spec h18
            refine x_goi hA hI (x_runV (As := []) (rest := []) X hK hA hG hI h18 (q := (RX0, TX0, 10)) rfl rfl (xet_X0_goesRace l a0 _ _ hs) iX0_goesRace q1345 q1347 qs37 q94 ⟨(Nat.le_of_ble_eq_true rfl), (Nat.le_of_ble_eq_true rfl)⟩ rfl hl.1 rfl (Nat.le_of_ble_eq_true rfl) dX0_summer_39 ⟨(Nat.le_of_ble_eq_true rfl), (Nat.le_of_ble_eq_true rfl)⟩) (fun r18 C17 H locs hs9 hI => ?_)
            replace hs := hs9
            refine lv_pop hx hb dX0_summer_42 rfl ?_
            refine lv_iinc (v := (x14 + 1)) (lv' := [(4, .int (x14 + 1)), (0, .ref a0), (1, .int a1), (2, .int a2), (3, .int v8)]) hx hb dX0_summer_43 hl (k := 4) rfl (congrArg (fun z => x14 + z) (show Int32.ofInt (1) = 1 by decide)) (by decide) rfl (fun ls hl => ?_)
            refine lv_goto (tgt := 32) hx hb dX0_summer_46 (by decide) ?_
            exact ihx_X0_summer_l32 _ _ _ _ _ hs hI (lv_sub hl [1, 2, 3, 4, 0] rfl)
      exact Lx_X0_summer_l32 NF _ _ _ _ _ hs hI (lv_sub hl [2, 3, 4, 1, 0] rfl)
