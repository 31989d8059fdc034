set_option maxRecDepth 100000
def x_X20_items_l6 (E : Nat → XH → Prop) (a0 : Nat) (k29_4 : Int32 → XH → Prop) : Nat → Int32 → XH → Prop
  | 0, _, _ => False
  | n6_7 + 1, x6, C7 => (xcl C7 a0 = some 20 ∧ x_X20_ends a0 C7 (fun r10 C9 => (if r10 = 0 then (xcl C9 a0 = some 20 ∧ x_X20_must a0 59 C9 (fun C12 => (xcl C12 a0 = some 20 ∧ x_X20_item a0 C12 (fun C14 => x_X20_items_l6 E a0 k29_4 n6_7 (x6 + 1) C14) (fun ad16 C17 => E ad16 C17))) (fun ad18 C19 => E ad18 C19)) else k29_4 x6 C9)))
theorem x_X20_items_l6_s (E : Nat → XH → Prop) (a0 : Nat) (k29_4 : Int32 → XH → Prop) (n6_7 : Nat) (x6 : Int32) (C7 : XH) : x_X20_items_l6 E a0 k29_4 (n6_7 + 1) x6 C7 = ((xcl C7 a0 = some 20 ∧ x_X20_ends a0 C7 (fun r10 C9 => (if r10 = 0 then (xcl C9 a0 = some 20 ∧ x_X20_must a0 59 C9 (fun C12 => (xcl C12 a0 = some 20 ∧ x_X20_item a0 C12 (fun C14 => x_X20_items_l6 E a0 k29_4 n6_7 (x6 + 1) C14) (fun ad16 C17 => E ad16 C17))) (fun ad18 C19 => E ad18 C19)) else k29_4 x6 C9)))) := rfl
def x_X20_items (a0 : Nat) (C : XH) (K : Int32 → XH → Prop) (E : Nat → XH → Prop) : Prop := (xcl C a0 = some 20 ∧ x_X20_item a0 C (fun C1 => jn (fun (x3 : Int32) (C4 : XH) => K x3 C4) (fun k29_4 => x_X20_items_l6 E a0 k29_4 NF170 1 C1)) (fun ad21 C22 => E ad21 C22))
theorem iX20_items : xInf yX20_items cX20_items 2 (some .int) 0 := ⟨q976, by decide +kernel⟩
set_option maxHeartbeats 4000000 in
theorem xet_X20_items (l : Launch) (hl0 : l.stackTraces = false) (a0 : Nat) (C : XH) (K : Int32 → XH → Prop) (E : Nat → XH → Prop) (hs : x_X20_items a0 C K E) : xMetX l yX20_items (ws_ yX20_items cX20_items 2 (some .int)) 9 202 3267 22009 C [.ref a0] (fun D dT A => xQi D dT K A) (xEK RX21 E) := by
  intro D dT adK adV sz
  refine xEnterT (own := RX20) (Qc := xQi D dT K) (XC := xXC D dT (xEK RX21 E)) (by decide) rfl (by rfl) ?_
  intro p e s m args below meth c A ls X hnm hK hA hG hT hI hl
  have hx := X.1
  have hb := X.2.1
  have hts := X.2.2.2.2.1
  have hown := X.2.2.2.2.2.1
  have hl : lv_has ls 2 [(0, .ref a0)] := hl
  unfold x_X20_items at hs
  refine lv_iconst (v := 1) hx hb dX20_items_0 (by decide) ?_
  refine lv_istore_n (lv' := [(1, .int 1), (0, .ref a0)]) hx hb dX20_items_1 rfl hl (by decide) rfl (fun ls hl => ?_)
  refine lv_aload_n hx hb dX20_items_2 rfl (lv_at hl 1 rfl) ?_
  obtain ⟨h1, hs⟩ := hs
  obtain ⟨fh1, h1⟩ := xcl_spec h1
  refine xT_gov hA hI (x_runVT (As := []) (rest := []) X hK hA hG hI h1 (q := (RX20, TX20, 4)) rfl rfl (xet_X20_item l hl0 a0 _ _ _ hs) iX20_item q977 q979 qs5 q124 ⟨(Nat.le_of_ble_eq_true rfl), (Nat.le_of_ble_eq_true rfl)⟩ rfl hl.1 rfl (Nat.le_of_ble_eq_true rfl) dX20_items_3 ⟨(Nat.le_of_ble_eq_true rfl), (Nat.le_of_ble_eq_true rfl)⟩) (fun En ce ad21 C22 H locs hs9 hI hce hvm hcl => ?_) (fun C1 H locs hs9 hI => ?_)
  · obtain ⟨rfl, hs0⟩ := hs9
    replace hs := hs0
    exact x_pass X hK hT rfl hI hce hvm hcl ⟨rfl, hs⟩ (Nat.le_of_ble_eq_true rfl) (Nat.le_of_ble_eq_true rfl)
  · replace hs := hs9
    obtain ⟨k29_4, hk29_4, hs⟩ := jn_ex hs
    have Ek29_4 : ∀ (x3 : Int32) (C4 : XH) (H : Heap) (locs : List Loc) (ls : Array Slot), k29_4 x3 C4 → xI D dT A s.heap C4 H locs → lv_has ls 2 [(1, .int x3)] → W p l e (xRm 9 202 3267 22009) s m args below meth c H locs 3267 22009 (vx_MQ below (xQi D dT K A) (xXC D dT (xEK RX21 E) A) args s 3267 22009 A) (F0 m 29 ls []) := by
      intro x3 C4 H locs ls hs hI hl
      rw [hk29_4] at hs
      refine lv_iload_n hx hb dX20_items_29 rfl (lv_at hl 0 rfl) ?_
      exact vx_ret (x_reti X hK hI hs (Nat.le_of_ble_eq_true rfl) (Nat.le_of_ble_eq_true rfl) dX20_items_30)
    have Lx_X20_items_l6 : ∀ (n6_7 : Nat) (ce6 sl6 : Nat), ce6 + (n6_7 + 1) * 19 ≤ 3267 → sl6 + (n6_7 + 1) * 128 ≤ 22009 → ∀ (x6 : Int32) (C7 : XH) (H : Heap) (locs : List Loc) (ls : Array Slot), x_X20_items_l6 E a0 k29_4 n6_7 x6 C7 → xI D dT A s.heap C7 H locs → lv_has ls 2 [(0, .ref a0), (1, .int x6)] → W p l e (xRm 9 202 3267 22009) s m args below meth c H locs ce6 sl6 (vx_MQ below (xQi D dT K A) (xXC D dT (xEK RX21 E) A) args s 3267 22009 A) (F0 m 6 ls []) := by
      intro n6_7
      induction n6_7 with
      | zero =>
        intro ce6 sl6 hce6 hsl6 x6 C7 H locs ls hs
        exact False.elim hs
      | succ n6_7 ihx_X20_items_l6 =>
        intro ce6 sl6 hce6 hsl6 x6 C7 H locs ls hs hI hl
        rw [x_X20_items_l6_s] at hs
        refine lv_aload_n hx hb dX20_items_6 rfl (lv_at hl 0 rfl) ?_
        obtain ⟨h10, hs⟩ := hs
        obtain ⟨fh10, h10⟩ := xcl_spec h10
        refine x_goz hA hI (x_runV (As := []) (rest := []) X hK hA hG hI h10 (q := (RX20, TX20, 4)) rfl rfl (xet_X20_ends l a0 _ _ hs) iX20_ends q985 q987 qs7 q124 ⟨(Nat.le_of_ble_eq_true rfl), (Nat.le_of_ble_eq_true rfl)⟩ rfl hl.1 rfl (Nat.le_of_ble_eq_true rfl) dX20_items_7 ⟨(show ce6 ≤ 3267 by omega), (show sl6 ≤ 22009 by omega)⟩) (fun r10 C9 H locs br10 hs9 hI => ?_)
        replace hs := hs9
        refine lv_if_ne (tgt := 29) hx hb dX20_items_10 (by decide) (fun c19 => ?_) (fun c19 => ?_)
        · replace hs := ifn c19 hs
          exact W.widen (show ce6 ≤ 3267 by omega) (show sl6 ≤ 22009 by omega) (Ek29_4 _ _ _ _ _ hs hI (lv_sub hl [1] rfl))
        · replace hs := ifp c19 hs
          refine lv_aload_n hx hb dX20_items_13 rfl (lv_at hl 0 rfl) ?_
          refine lv_bipush (v := 59) hx hb dX20_items_14 (by decide) ?_
          obtain ⟨h12, hs⟩ := hs
          obtain ⟨fh12, h12⟩ := xcl_spec h12
          refine xT_gov hA hI (x_runVT (As := [.int 59]) (rest := []) X hK hA hG hI h12 (q := (RX20, TX20, 4)) rfl rfl (xet_X20_must l hl0 a0 59 _ _ _ hs) iX20_must q1070 q1072 qs10 q124 ⟨(Nat.le_of_ble_eq_true rfl), (Nat.le_of_ble_eq_true rfl)⟩ rfl hl.1 rfl (Nat.le_of_ble_eq_true rfl) dX20_items_16 ⟨(show (ce6 + 1) ≤ 3267 by omega), (show (sl6 + 7) ≤ 22009 by omega)⟩) (fun En ce ad18 C19 H locs hs9 hI hce hvm hcl => ?_) (fun C12 H locs hs9 hI => ?_)
          · obtain ⟨rfl, hs0⟩ := hs9
            replace hs := hs0
            exact x_pass X hK hT rfl hI hce hvm hcl ⟨rfl, hs⟩ (show (ce6 + 1) ≤ 3267 by omega) (show (sl6 + 7) ≤ 22009 by omega)
          · replace hs := hs9
            refine lv_aload_n hx hb dX20_items_19 rfl (lv_at hl 0 rfl) ?_
            obtain ⟨h14, hs⟩ := hs
            obtain ⟨fh14, h14⟩ := xcl_spec h14
            refine xT_gov hA hI (x_runVT (As := []) (rest := []) X hK hA hG hI h14 (q := (RX20, TX20, 4)) rfl rfl (xet_X20_item l hl0 a0 _ _ _ hs) iX20_item q977 q979 qs5 q124 ⟨(Nat.le_of_ble_eq_true rfl), (Nat.le_of_ble_eq_true rfl)⟩ rfl hl.1 rfl (Nat.le_of_ble_eq_true rfl) dX20_items_20 ⟨(show (ce6 + 19) ≤ 3267 by omega), (show (sl6 + 128) ≤ 22009 by omega)⟩) (fun En ce ad16 C17 H locs hs9 hI hce hvm hcl => ?_) (fun C14 H locs hs9 hI => ?_)
            · obtain ⟨rfl, hs0⟩ := hs9
              replace hs := hs0
              exact x_pass X hK hT rfl hI hce hvm hcl ⟨rfl, hs⟩ (show (ce6 + 19) ≤ 3267 by omega) (show (sl6 + 128) ≤ 22009 by omega)
            · replace hs := hs9
              refine lv_iinc (v := (x6 + 1)) (lv' := [(1, .int (x6 + 1)), (0, .ref a0)]) hx hb dX20_items_23 hl (k := 1) rfl (congrArg (fun z => x6 + z) (show Int32.ofInt (1) = 1 by decide)) (by decide) rfl (fun ls hl => ?_)
              refine lv_goto (tgt := 6) hx hb dX20_items_26 (by decide) ?_
              exact ihx_X20_items_l6 (ce6 + 19) (sl6 + 128) (by omega) (by omega) _ _ _ _ _ hs hI (lv_sub hl [1, 0] rfl)
    have hNF := NF170_eq
    exact Lx_X20_items_l6 NF170 18 121 (by omega) (by omega) _ _ _ _ _ hs hI (lv_sub hl [1, 0] rfl)
def x_X0_field (a0 : Nat) (a1 : Int32) (C : XH) (K : Int32 → XH → Prop) : Prop := (xcl C a0 = some 0 ∧ x_X0_shelf a0 a1 C (fun ad2 C1 => (xcl C1 ad2 = some 5 ∧ x_X5_row ad2 C1 (fun ad5 C4 => obd (xpv C4 (xis 0) a0 9 (.int (-1))) (fun C7 => xnew C7 (.inr (4, [.int 0, .int 0, .int 0, .int 0, .int 0, .null, .null, .null, .null, .null, .null, .null, .null])) (fun ad8 C9 => x_X4_init ad8 C9 (fun C10 => obd (xgr C10 (xis 0) a0 7) (fun ad11 => (xcl C10 ad8 = some 4 ∧ x_X4_take ad8 ad11 C10 (fun ad13 C12 => xnew C12 (.inr (20, [.null, .null, .int 0, .int 0])) (fun ad15 C16 => x_X20_init ad15 ad5 ad13 C16 (fun C17 => (xcl C17 ad15 = some 20 ∧ x_X20_items ad15 C17 (fun r19 C18 => obd (xpv C18 (xis 0) a0 7 (.ref ad13)) (fun C21 => K r19 C21)) (fun ad22 C23 => obd (xgi C23 (xis 21) ad22 6) (fun v24 => obd (xpv C23 (xis 0) a0 9 (.int v24)) (fun C25 => xnew C25 (.inr (7, [.null, .null, .null, .null, .null, .int 0, .int 0])) (fun ad26 C27 => x_X7_init ad26 (-6) C27 (fun C28 => (xcl C28 ad26 = some 7 ∧ (xcl C28 a0 = some 0 ∧ x_X0_refused a0 ad26 C28 (fun r31 C30 => K r31 C30)))))))))))))))))) (fun ad33 C34 => (xcl C34 a0 = some 0 ∧ x_X0_refused a0 ad33 C34 (fun r36 C35 => K r36 C35))))) (fun ad38 C39 => (xcl C39 a0 = some 0 ∧ x_X0_refused a0 ad38 C39 (fun r41 C40 => K r41 C40))))
theorem iX0_field : xInfW yX0_field cX0_field 5 (some .int) [(29, 50, 51, 276), (0, 50, 72, 21), (51, 72, 72, 21)] 1 := ⟨q947, by decide +kernel⟩
set_option maxHeartbeats 4000000 in
theorem xet_X0_field (l : Launch) (hl0 : l.stackTraces = false) (a0 : Nat) (a1 : Int32) (C : XH) (K : Int32 → XH → Prop) (hs : x_X0_field a0 a1 C K) : xMetX l yX0_field (wsW_ yX0_field cX0_field 5 (some .int) [(29, 50, 51, 276), (0, 50, 72, 21), (51, 72, 72, 21)]) 13 10322 3287 24134 C [.ref a0, .int a1] (fun D dT A => xQi D dT K A) xE0 := by
  intro D dT adK adV sz
  refine xEnterW (own := RX0) (Qc := xQi D dT K) (XC := xXC D dT xE0) (by decide) rfl (by rfl) ?_
  intro p e s m args below meth c A ls X hnm hK hA hG hT hI hl
  have hx := X.1
  have hb := X.2.1
  have hts := X.2.2.2.2.1
  have hown := X.2.2.2.2.2.1
  have hl : lv_has ls 5 [(0, .ref a0), (1, .int a1)] := hl
  unfold x_X0_field at hs
  refine lv_aload_n hx hb dX0_field_0 rfl (lv_at hl 0 rfl) ?_
  refine lv_iload_n hx hb dX0_field_1 rfl (lv_at hl 1 rfl) ?_
  obtain ⟨h2, hs⟩ := hs
  obtain ⟨fh2, h2⟩ := xcl_spec h2
  refine xT_gor hA hI (x_runVTW (As := [.int a1]) (rest := []) X hK hA hG hI h2 (q := (RX0, TX0, 10)) rfl rfl (xet_X0_shelf l hl0 a0 a1 _ _ _ hs) iX0_shelf q364 q366 qs0 q94 ⟨(Nat.le_of_ble_eq_true rfl), (Nat.le_of_ble_eq_true rfl)⟩ rfl hl.1 rfl (Nat.le_of_ble_eq_true rfl) dX0_field_2 ⟨(Nat.le_of_ble_eq_true rfl), (Nat.le_of_ble_eq_true rfl)⟩) (fun En ce ad38 C39 H locs hs9 hI hce hvm hcl => ?_) (fun ad2 C1 H locs hs9 hI => ?_)
  · obtain ⟨rfl, hs0⟩ := hs9
    replace hs := hs0
    refine x_catch (k := 1) (a1 := 0) (a2 := 50) (a3 := 72) (a4 := 21) X hG hT rfl (x_cov rfl) rfl (by decide) q363 (by decide) hce hvm hcl ?_
    refine lv_astore_n (lv' := [(2, .ref ad38), (0, .ref a0), (1, .int a1)]) hx hb dX0_field_72 rfl hl (by decide) rfl (fun ls hl => ?_)
    refine lv_aload_n hx hb dX0_field_73 rfl (lv_at hl 1 rfl) ?_
    refine lv_aload_n hx hb dX0_field_74 rfl (lv_at hl 0 rfl) ?_
    obtain ⟨h41, hs⟩ := hs
    obtain ⟨fh41, h41⟩ := xcl_spec h41
    refine x_goi hA hI (x_runV (As := [.ref ad38]) (rest := []) X hK hA hG hI h41 (q := (RX0, TX0, 10)) rfl rfl (xet_X0_refused l a0 ad38 _ _ hs) iX0_refused q538 q540 qs2 q94 ⟨(Nat.le_of_ble_eq_true rfl), (Nat.le_of_ble_eq_true rfl)⟩ rfl hl.1 rfl (Nat.le_of_ble_eq_true rfl) dX0_field_75 ⟨(Nat.le_of_ble_eq_true rfl), (Nat.le_of_ble_eq_true rfl)⟩) (fun r41 C40 H locs hs9 hI => ?_)
    replace hs := hs9
    exact vx_ret (x_reti X hK hI hs (Nat.le_of_ble_eq_true rfl) (Nat.le_of_ble_eq_true rfl) dX0_field_78)
  · replace hs := hs9
    obtain ⟨h5, hs⟩ := hs
    obtain ⟨fh5, h5⟩ := xcl_spec h5
    refine xT_gor hA hI (x_runVTW (As := []) (rest := []) X hK hA hG hI h5 (q := (RX5, TX5, 1)) rfl rfl (xet_X5_row l hl0 ad2 _ _ _ hs) iX5_row q546 q547 q548 q99 ⟨(Nat.le_of_ble_eq_true rfl), (Nat.le_of_ble_eq_true rfl)⟩ rfl hl.1 rfl (Nat.le_of_ble_eq_true rfl) dX0_field_5 ⟨(Nat.le_of_ble_eq_true rfl), (Nat.le_of_ble_eq_true rfl)⟩) (fun En ce ad33 C34 H locs hs9 hI hce hvm hcl => ?_) (fun ad5 C4 H locs hs9 hI => ?_)
    · obtain ⟨rfl, hs0⟩ := hs9
      replace hs := hs0
      refine x_catch (k := 1) (a1 := 0) (a2 := 50) (a3 := 72) (a4 := 21) X hG hT rfl (x_cov rfl) rfl (by decide) q363 (by decide) hce hvm hcl ?_
      refine lv_astore_n (lv' := [(2, .ref ad33), (0, .ref a0), (1, .int a1)]) hx hb dX0_field_72 rfl hl (by decide) rfl (fun ls hl => ?_)
      refine lv_aload_n hx hb dX0_field_73 rfl (lv_at hl 1 rfl) ?_
      refine lv_aload_n hx hb dX0_field_74 rfl (lv_at hl 0 rfl) ?_
      obtain ⟨h36, hs⟩ := hs
      obtain ⟨fh36, h36⟩ := xcl_spec h36
      refine x_goi hA hI (x_runV (As := [.ref ad33]) (rest := []) X hK hA hG hI h36 (q := (RX0, TX0, 10)) rfl rfl (xet_X0_refused l a0 ad33 _ _ hs) iX0_refused q538 q540 qs2 q94 ⟨(Nat.le_of_ble_eq_true rfl), (Nat.le_of_ble_eq_true rfl)⟩ rfl hl.1 rfl (Nat.le_of_ble_eq_true rfl) dX0_field_75 ⟨(Nat.le_of_ble_eq_true rfl), (Nat.le_of_ble_eq_true rfl)⟩) (fun r36 C35 H locs hs9 hI => ?_)
      replace hs := hs9
      exact vx_ret (x_reti X hK hI hs (Nat.le_of_ble_eq_true rfl) (Nat.le_of_ble_eq_true rfl) dX0_field_78)
    · replace hs := hs9
      refine lv_astore_n (lv' := [(2, .ref ad5), (0, .ref a0), (1, .int a1)]) hx hb dX0_field_8 rfl hl (by decide) rfl (fun ls hl => ?_)
      refine lv_aload_n hx hb dX0_field_9 rfl (lv_at hl 1 rfl) ?_
      refine lv_iconst (v := (-1)) hx hb dX0_field_10 (by decide) ?_
      obtain ⟨C7, eC7, hs⟩ := hs
      refine x_put X hK hI 0 9 rfl in_X0 tyX0 tyX0_ok nmX0 rfl q337 rfl rfl rfl rfl eC7 dX0_field_11 (fun H locs hI => ?_)
      refine x_new X hK hI hA 4 (fs := [.int 0, .int 0, .int 0, .int 0, .int 0, .null, .null, .null, .null, .null, .null, .null, .null]) rfl in_X4 tyX4 tyX4_ok q243 q244 q98 rfl (Nat.le_of_ble_eq_true rfl) (Nat.le_of_ble_eq_true rfl) hs dX0_field_14 (fun ad8 C9 H hs9 hI => ?_)
      replace hs := hs9
      refine lv_dup hx hb dX0_field_17 rfl ?_
      refine x_gov hA hI (x_runI (As := []) (rest := [.ref ad8]) X hK hA hG hI (xet_X4_init l ad8 _ _ hs) iX4_init rfl q245 q246 q98 ⟨(Nat.le_of_ble_eq_true rfl), (Nat.le_of_ble_eq_true rfl)⟩ rfl hl.1 rfl (Nat.le_of_ble_eq_true rfl) dX0_field_18 ⟨(Nat.le_of_ble_eq_true rfl), (Nat.le_of_ble_eq_true rfl)⟩) (fun C10 H locs hs9 hI => ?_)
      replace hs := hs9
      refine lv_aload_n hx hb dX0_field_21 rfl (lv_at hl 1 rfl) ?_
      obtain ⟨ad11, ead11, hs⟩ := hs
      refine x_get (v := .ref ad11) X hK hI 0 7 rfl in_X0 rfl q335 rfl (xgr_spec ead11) dX0_field_22 ?_
      obtain ⟨h13, hs⟩ := hs
      obtain ⟨fh13, h13⟩ := xcl_spec h13
      refine x_gor hA hI (x_runV (As := [.ref ad11]) (rest := []) X hK hA hG hI h13 (q := (RX4, TX4, 13)) rfl rfl (xet_X4_take l ad8 ad11 _ _ hs) iX4_take q949 q950 q951 q98 ⟨(Nat.le_of_ble_eq_true rfl), (Nat.le_of_ble_eq_true rfl)⟩ rfl hl.1 rfl (Nat.le_of_ble_eq_true rfl) dX0_field_25 ⟨(Nat.le_of_ble_eq_true rfl), (Nat.le_of_ble_eq_true rfl)⟩) (fun ad13 C12 H locs hs9 hI => ?_)
      replace hs := hs9
      refine lv_astore_n (lv' := [(3, .ref ad13), (2, .ref ad5), (0, .ref a0), (1, .int a1)]) hx hb dX0_field_28 rfl hl (by decide) rfl (fun ls hl => ?_)
      refine x_new X hK hI hA 20 (fs := [.null, .null, .int 0, .int 0]) rfl in_X20 tyX20 tyX20_ok q954 q955 q124 rfl (Nat.le_of_ble_eq_true rfl) (Nat.le_of_ble_eq_true rfl) hs dX0_field_29 (fun ad15 C16 H hs9 hI => ?_)
      replace hs := hs9
      refine lv_dup hx hb dX0_field_32 rfl ?_
      refine lv_aload_n hx hb dX0_field_33 rfl (lv_at hl 1 rfl) ?_
      refine lv_aload_n hx hb dX0_field_34 rfl (lv_at hl 0 rfl) ?_
      refine x_gov hA hI (x_runI (As := [.ref ad5, .ref ad13]) (rest := [.ref ad15]) X hK hA hG hI (xet_X20_init l ad15 ad5 ad13 _ _ hs) iX20_init rfl q956 q957 q124 ⟨(Nat.le_of_ble_eq_true rfl), (Nat.le_of_ble_eq_true rfl)⟩ rfl hl.1 rfl (Nat.le_of_ble_eq_true rfl) dX0_field_35 ⟨(Nat.le_of_ble_eq_true rfl), (Nat.le_of_ble_eq_true rfl)⟩) (fun C17 H locs hs9 hI => ?_)
      replace hs := hs9
      obtain ⟨h19, hs⟩ := hs
      obtain ⟨fh19, h19⟩ := xcl_spec h19
      refine xT_goi hA hI (x_runVT (As := []) (rest := []) X hK hA hG hI h19 (q := (RX20, TX20, 4)) rfl rfl (xet_X20_items l hl0 ad15 _ _ _ hs) iX20_items q973 q974 q975 q124 ⟨(Nat.le_of_ble_eq_true rfl), (Nat.le_of_ble_eq_true rfl)⟩ rfl hl.1 rfl (Nat.le_of_ble_eq_true rfl) dX0_field_38 ⟨(Nat.le_of_ble_eq_true rfl), (Nat.le_of_ble_eq_true rfl)⟩) (fun En ce ad22 C23 H locs hs9 hI hce hvm hcl => ?_) (fun r19 C18 H locs hs9 hI => ?_)
      · obtain ⟨rfl, hs0⟩ := hs9
        replace hs := hs0
        refine x_catch (k := 0) (a1 := 29) (a2 := 50) (a3 := 51) (a4 := 276) X hG hT rfl (x_cov rfl) rfl (by decide) q948 (by decide) hce hvm hcl ?_
        refine lv_astore (lv' := [(4, .ref ad22), (3, .ref ad13), (2, .ref ad5), (0, .ref a0), (1, .int a1)]) hx hb dX0_field_51 hl (by decide) rfl (fun ls hl => ?_)
        refine lv_aload_n hx hb dX0_field_53 rfl (lv_at hl 3 rfl) ?_
        refine lv_aload hx hb dX0_field_54 (lv_at hl 0 rfl) ?_
        obtain ⟨v24, ev24, hs⟩ := hs
        refine x_get (v := .int v24) X hK hI 21 6 rfl in_X21 rfl q1088 rfl (xgi_spec ev24) dX0_field_56 ?_
        obtain ⟨C25, eC25, hs⟩ := hs
        refine x_put X hK hI 0 9 rfl in_X0 tyX0 tyX0_ok nmX0 rfl q337 rfl rfl rfl rfl eC25 dX0_field_59 (fun H locs hI => ?_)
        refine x_new X hK hI hA 7 (fs := [.null, .null, .null, .null, .null, .int 0, .int 0]) rfl in_X7 tyX7 tyX7_ok q363 q446 q107 rfl (Nat.le_of_ble_eq_true rfl) (Nat.le_of_ble_eq_true rfl) hs dX0_field_62 (fun ad26 C27 H hs9 hI => ?_)
        replace hs := hs9
        refine lv_dup hx hb dX0_field_65 rfl ?_
        refine lv_bipush (v := (-6)) hx hb dX0_field_66 (by decide) ?_
        refine x_gov hA hI (x_runI (As := [.int (-6)]) (rest := [.ref ad26]) X hK hA hG hI (xet_X7_init l ad26 (-6) _ _ hs) iX7_init rfl q454 q455 q107 ⟨(Nat.le_of_ble_eq_true rfl), (Nat.le_of_ble_eq_true rfl)⟩ rfl hl.1 rfl (Nat.le_of_ble_eq_true rfl) dX0_field_68 ⟨(Nat.le_of_ble_eq_true rfl), (Nat.le_of_ble_eq_true rfl)⟩) (fun C28 H locs hs9 hI => ?_)
        replace hs := hs9
        obtain ⟨hf28, hs⟩ := hs
        obtain ⟨f28, hf28⟩ := xcl_spec hf28
        obtain ⟨ce, hce, hvm, hcl⟩ := x_thrown hK hI hf28 rfl
        refine vx_athrow hx hb dX0_field_71 ?_
        refine x_catch (k := 2) (a1 := 51) (a2 := 72) (a3 := 72) (a4 := 21) X hG hT rfl (x_cov rfl) rfl (by decide) q363 (by decide) hce hvm hcl ?_
        refine lv_astore_n (lv' := [(2, .ref ad26), (4, .ref ad22), (3, .ref ad13), (0, .ref a0), (1, .int a1)]) hx hb dX0_field_72 rfl hl (by decide) rfl (fun ls hl => ?_)
        refine lv_aload_n hx hb dX0_field_73 rfl (lv_at hl 3 rfl) ?_
        refine lv_aload_n hx hb dX0_field_74 rfl (lv_at hl 0 rfl) ?_
        obtain ⟨h31, hs⟩ := hs
        obtain ⟨fh31, h31⟩ := xcl_spec h31
        refine x_goi hA hI (x_runV (As := [.ref ad26]) (rest := []) X hK hA hG hI h31 (q := (RX0, TX0, 10)) rfl rfl (xet_X0_refused l a0 ad26 _ _ hs) iX0_refused q538 q540 qs2 q94 ⟨(Nat.le_of_ble_eq_true rfl), (Nat.le_of_ble_eq_true rfl)⟩ rfl hl.1 rfl (Nat.le_of_ble_eq_true rfl) dX0_field_75 ⟨(Nat.le_of_ble_eq_true rfl), (Nat.le_of_ble_eq_true rfl)⟩) (fun r31 C30 H locs hs9 hI => ?_)
        replace hs := hs9
        exact vx_ret (x_reti X hK hI hs (Nat.le_of_ble_eq_true rfl) (Nat.le_of_ble_eq_true rfl) dX0_field_78)
      · replace hs := hs9
        refine lv_istore (lv' := [(4, .int r19), (3, .ref ad13), (2, .ref ad5), (0, .ref a0), (1, .int a1)]) hx hb dX0_field_41 hl (by decide) rfl (fun ls hl => ?_)
        refine lv_aload_n hx hb dX0_field_43 rfl (lv_at hl 3 rfl) ?_
        refine lv_aload_n hx hb dX0_field_44 rfl (lv_at hl 1 rfl) ?_
        obtain ⟨C21, eC21, hs⟩ := hs
        refine x_put X hK hI 0 7 rfl in_X0 tyX0 tyX0_ok nmX0 rfl q335 rfl rfl rfl rfl eC21 dX0_field_45 (fun H locs hI => ?_)
        refine lv_iload hx hb dX0_field_48 (lv_at hl 0 rfl) ?_
        exact vx_ret (x_reti X hK hI hs (Nat.le_of_ble_eq_true rfl) (Nat.le_of_ble_eq_true rfl) dX0_field_50)
def x_X0_fault (a0 : Nat) (C : XH) (K : Int32 → XH → Prop) : Prop := obd (xgi C (xis 0) a0 9) (fun v1 => K v1 C)
theorem iX0_fault : xInf yX0_fault cX0_fault 1 (some .int) 0 := ⟨q1129, by decide +kernel⟩
set_option maxHeartbeats 4000000 in
theorem xet_X0_fault (l : Launch) (a0 : Nat) (C : XH) (K : Int32 → XH → Prop) (hs : x_X0_fault a0 C K) : xMeti l yX0_fault (ws_ yX0_fault cX0_fault 1 (some .int)) 0 0 0 0 C [.ref a0] K := by
  intro D dT adK adV sz
  refine xEnter (own := RX0) (Qc := xQi D dT K) (by decide) rfl (by rfl) ?_
  intro p e s m args below meth c A ls X hnm hK hA hG hI hl
  have hx := X.1
  have hb := X.2.1
  have hts := X.2.2.2.2.1
  have hown := X.2.2.2.2.2.1
  have hl : lv_has ls 1 [(0, .ref a0)] := hl
  unfold x_X0_fault at hs
  refine lv_aload_n hx hb dX0_fault_0 rfl (lv_at hl 0 rfl) ?_
  obtain ⟨v1, ev1, hs⟩ := hs
  refine x_get (v := .int v1) X hK hI 0 9 rfl in_X0 rfl q337 rfl (xgi_spec ev1) dX0_fault_1 ?_
  exact x_reti X hK hI hs (Nat.le_of_ble_eq_true rfl) (Nat.le_of_ble_eq_true rfl) dX0_fault_4
def x_X2_begins (a0 : Nat) (a1 : Nat) (a2 : Nat) (a3 : Int32) (a4 : Int32) (a5 : Int32) (a6 : Int32) (C : XH) (K : Nat → XH → Prop) : Prop := obd (xpv C (xis 2) a0 0 (.ref a1)) (fun C1 => vd_X13_stride a2 a3 a4 C1 (fun r3 C2 => obd (xpv C2 (xis 2) a0 1 (.int r3)) (fun C4 => vd_X13_puff a2 C4 (fun r6 C5 => obd (xpv C5 (xis 2) a0 2 (.int r6)) (fun C7 => vd_X13_risk a2 a3 a4 a5 C7 (fun r9 C8 => obd (xpv C8 (xis 2) a0 3 (.int r9)) (fun C10 => obd (xgr C10 (xis 4) a1 5) (fun ad11 => obd (xai C10 0 ad11 2) (fun v12 => obd (xpv C10 (xis 2) a0 4 (.int (imax 0 (v12 - a3)))) (fun C13 => obd (xpv C13 (xis 2) a0 5 (.int a6)) (fun C14 => obd (xgr C14 (xis 4) a1 5) (fun ad15 => obd (xai C14 0 ad15 3) (fun v16 => obd (xpv C14 (xis 2) a0 6 (.int v16)) (fun C17 => obd (xpv C17 (xis 2) a0 7 (.int 0)) (fun C18 => obd (xpv C18 (xis 2) a0 8 (.int 0)) (fun C19 => obd (xpv C19 (xis 2) a0 9 (.int 0)) (fun C20 => obd (xpv C20 (xis 2) a0 10 (.int (-1))) (fun C21 => obd (xpv C21 (xis 2) a0 11 (.int 0)) (fun C22 => K a0 C22)))))))))))))))))))
theorem iX2_begins : xInf yX2_begins cX2_begins 7 (some (.object RX2)) 6 := ⟨q1149, by decide +kernel⟩
set_option maxHeartbeats 4000000 in
theorem xet_X2_begins (l : Launch) (a0 : Nat) (a1 : Nat) (a2 : Nat) (a3 : Int32) (a4 : Int32) (a5 : Int32) (a6 : Int32) (C : XH) (K : Nat → XH → Prop) (hs : x_X2_begins a0 a1 a2 a3 a4 a5 a6 C K) : xMetr l yX2_begins (ws_ yX2_begins cX2_begins 7 (some (.object RX2))) 5 110 0 0 C [.ref a0, .ref a1, .ref a2, .int a3, .int a4, .int a5, .int a6] K := by
  intro D dT adK adV sz
  refine xEnter (own := RX2) (Qc := xQr D dT K) (by decide) rfl (by rfl) ?_
  intro p e s m args below meth c A ls X hnm hK hA hG hI hl
  have hx := X.1
  have hb := X.2.1
  have hts := X.2.2.2.2.1
  have hown := X.2.2.2.2.2.1
  have hl : lv_has ls 7 [(0, .ref a0), (1, .ref a1), (2, .ref a2), (3, .int a3), (4, .int a4), (5, .int a5), (6, .int a6)] := hl
  unfold x_X2_begins at hs
  refine lv_aload_n hx hb dX2_begins_0 rfl (lv_at hl 0 rfl) ?_
  refine lv_aload_n hx hb dX2_begins_1 rfl (lv_at hl 1 rfl) ?_
  obtain ⟨C1, eC1, hs⟩ := hs
  refine x_put X hK hI 2 0 rfl in_X2 tyX2 tyX2_ok nmX2 rfl q162 rfl rfl rfl rfl eC1 dX2_begins_2 (fun H locs hI => ?_)
  refine lv_aload_n hx hb dX2_begins_5 rfl (lv_at hl 0 rfl) ?_
  refine lv_aload_n hx hb dX2_begins_6 rfl (lv_at hl 2 rfl) ?_
  refine lv_iload_n hx hb dX2_begins_7 rfl (lv_at hl 3 rfl) ?_
  refine lv_iload hx hb dX2_begins_8 (lv_at hl 4 rfl) ?_
  refine x_goi hA hI (vdc_X13_stride (rest := [.ref a0]) X hK hA hG hI a2 a3 a4 _ hs q1150 ⟨(Nat.le_of_ble_eq_true rfl), (Nat.le_of_ble_eq_true rfl)⟩ hl.1 (Nat.le_of_ble_eq_true rfl) dX2_begins_10 ⟨(Nat.le_of_ble_eq_true rfl), (Nat.le_of_ble_eq_true rfl)⟩) (fun r3 C2 H locs hs9 hI => ?_)
  replace hs := hs9
  obtain ⟨C4, eC4, hs⟩ := hs
  refine x_put X hK hI 2 1 rfl in_X2 tyX2 tyX2_ok nmX2 rfl q163 rfl rfl rfl rfl eC4 dX2_begins_13 (fun H locs hI => ?_)
  refine lv_aload_n hx hb dX2_begins_16 rfl (lv_at hl 0 rfl) ?_
  refine lv_aload_n hx hb dX2_begins_17 rfl (lv_at hl 2 rfl) ?_
  refine x_goi hA hI (vdc_X13_puff (rest := [.ref a0]) X hK hA hG hI a2 _ hs q1151 ⟨(Nat.le_of_ble_eq_true rfl), (Nat.le_of_ble_eq_true rfl)⟩ hl.1 (Nat.le_of_ble_eq_true rfl) dX2_begins_18 ⟨(Nat.le_of_ble_eq_true rfl), (Nat.le_of_ble_eq_true rfl)⟩) (fun r6 C5 H locs hs9 hI => ?_)
  replace hs := hs9
  obtain ⟨C7, eC7, hs⟩ := hs
  refine x_put X hK hI 2 2 rfl in_X2 tyX2 tyX2_ok nmX2 rfl q164 rfl rfl rfl rfl eC7 dX2_begins_21 (fun H locs hI => ?_)
  refine lv_aload_n hx hb dX2_begins_24 rfl (lv_at hl 0 rfl) ?_
  refine lv_aload_n hx hb dX2_begins_25 rfl (lv_at hl 2 rfl) ?_
  refine lv_iload_n hx hb dX2_begins_26 rfl (lv_at hl 3 rfl) ?_
  refine lv_iload hx hb dX2_begins_27 (lv_at hl 4 rfl) ?_
  refine lv_iload hx hb dX2_begins_29 (lv_at hl 5 rfl) ?_
  refine x_goi hA hI (vdc_X13_risk (rest := [.ref a0]) X hK hA hG hI a2 a3 a4 a5 _ hs q1152 ⟨(Nat.le_of_ble_eq_true rfl), (Nat.le_of_ble_eq_true rfl)⟩ hl.1 (Nat.le_of_ble_eq_true rfl) dX2_begins_31 ⟨(Nat.le_of_ble_eq_true rfl), (Nat.le_of_ble_eq_true rfl)⟩) (fun r9 C8 H locs hs9 hI => ?_)
  replace hs := hs9
  obtain ⟨C10, eC10, hs⟩ := hs
  refine x_put X hK hI 2 3 rfl in_X2 tyX2 tyX2_ok nmX2 rfl q165 rfl rfl rfl rfl eC10 dX2_begins_34 (fun H locs hI => ?_)
  refine lv_aload_n hx hb dX2_begins_37 rfl (lv_at hl 0 rfl) ?_
  refine lv_iconst (v := 0) hx hb dX2_begins_38 (by decide) ?_
  refine lv_aload_n hx hb dX2_begins_39 rfl (lv_at hl 1 rfl) ?_
  obtain ⟨ad11, ead11, hs⟩ := hs
  refine x_get (v := .ref ad11) X hK hI 4 5 rfl in_X4 rfl q266 rfl (xgr_spec ead11) dX2_begins_40 ?_
  refine lv_iconst (v := 2) hx hb dX2_begins_43 (by decide) ?_
  obtain ⟨v12, ev12, hs⟩ := hs
  refine x_iald X hK hI ev12 dX2_begins_44 ?_
  refine lv_iload_n hx hb dX2_begins_45 rfl (lv_at hl 3 rfl) ?_
  refine lv_isub hx hb dX2_begins_46 ?_
  refine va_mmax (rest := [.ref a0]) hx hb (X.2.2.2.1.trans hl.1.symm) hown (hts _ q1153) (hts _ q717) (hts _ q116) (hts _ q718) (Nat.le_of_ble_eq_true rfl) (Nat.le_of_ble_eq_true rfl) (Nat.le_of_ble_eq_true rfl) (Nat.le_of_ble_eq_true rfl) dX2_begins_47 ?_
  obtain ⟨C13, eC13, hs⟩ := hs
  refine x_put X hK hI 2 4 rfl in_X2 tyX2 tyX2_ok nmX2 rfl q166 rfl rfl rfl rfl eC13 dX2_begins_50 (fun H locs hI => ?_)
  refine lv_aload_n hx hb dX2_begins_53 rfl (lv_at hl 0 rfl) ?_
  refine lv_iload hx hb dX2_begins_54 (lv_at hl 6 rfl) ?_
  obtain ⟨C14, eC14, hs⟩ := hs
  refine x_put X hK hI 2 5 rfl in_X2 tyX2 tyX2_ok nmX2 rfl q167 rfl rfl rfl rfl eC14 dX2_begins_56 (fun H locs hI => ?_)
  refine lv_aload_n hx hb dX2_begins_59 rfl (lv_at hl 0 rfl) ?_
  refine lv_aload_n hx hb dX2_begins_60 rfl (lv_at hl 1 rfl) ?_
  obtain ⟨ad15, ead15, hs⟩ := hs
  refine x_get (v := .ref ad15) X hK hI 4 5 rfl in_X4 rfl q266 rfl (xgr_spec ead15) dX2_begins_61 ?_
  refine lv_iconst (v := 3) hx hb dX2_begins_64 (by decide) ?_
  obtain ⟨v16, ev16, hs⟩ := hs
  refine x_iald X hK hI ev16 dX2_begins_65 ?_
  obtain ⟨C17, eC17, hs⟩ := hs
  refine x_put X hK hI 2 6 rfl in_X2 tyX2 tyX2_ok nmX2 rfl q169 rfl rfl rfl rfl eC17 dX2_begins_66 (fun H locs hI => ?_)
  refine lv_aload_n hx hb dX2_begins_69 rfl (lv_at hl 0 rfl) ?_
  refine lv_iconst (v := 0) hx hb dX2_begins_70 (by decide) ?_
  obtain ⟨C18, eC18, hs⟩ := hs
  refine x_put X hK hI 2 7 rfl in_X2 tyX2 tyX2_ok nmX2 rfl q171 rfl rfl rfl rfl eC18 dX2_begins_71 (fun H locs hI => ?_)
  refine lv_aload_n hx hb dX2_begins_74 rfl (lv_at hl 0 rfl) ?_
  refine lv_iconst (v := 0) hx hb dX2_begins_75 (by decide) ?_
  obtain ⟨C19, eC19, hs⟩ := hs
  refine x_put X hK hI 2 8 rfl in_X2 tyX2 tyX2_ok nmX2 rfl q173 rfl rfl rfl rfl eC19 dX2_begins_76 (fun H locs hI => ?_)
  refine lv_aload_n hx hb dX2_begins_79 rfl (lv_at hl 0 rfl) ?_
  refine lv_iconst (v := 0) hx hb dX2_begins_80 (by decide) ?_
  obtain ⟨C20, eC20, hs⟩ := hs
  refine x_put X hK hI 2 9 rfl in_X2 tyX2 tyX2_ok nmX2 rfl q175 rfl rfl rfl rfl eC20 dX2_begins_81 (fun H locs hI => ?_)
  refine lv_aload_n hx hb dX2_begins_84 rfl (lv_at hl 0 rfl) ?_
  refine lv_iconst (v := (-1)) hx hb dX2_begins_85 (by decide) ?_
  obtain ⟨C21, eC21, hs⟩ := hs
  refine x_put X hK hI 2 10 rfl in_X2 tyX2 tyX2_ok nmX2 rfl q177 rfl rfl rfl rfl eC21 dX2_begins_86 (fun H locs hI => ?_)
  refine lv_aload_n hx hb dX2_begins_89 rfl (lv_at hl 0 rfl) ?_
  refine lv_iconst (v := 0) hx hb dX2_begins_90 (by decide) ?_
  obtain ⟨C22, eC22, hs⟩ := hs
  refine x_put X hK hI 2 11 rfl in_X2 tyX2 tyX2_ok nmX2 rfl q179 rfl rfl rfl rfl eC22 dX2_begins_91 (fun H locs hI => ?_)
  refine lv_aload_n hx hb dX2_begins_94 rfl (lv_at hl 0 rfl) ?_
  exact x_retr X hK hI hs (Nat.le_of_ble_eq_true rfl) (Nat.le_of_ble_eq_true rfl) dX2_begins_95
def x_X2_ofKind (a0 : Nat) (a1 : Nat) (a2 : Nat) (a3 : Int32) (a4 : Int32) (C : XH) (K : Nat → XH → Prop) : Prop := obd (xgr C (xis 4) a1 7) (fun ad1 => obd (xai C 0 ad1 a3) (fun v2 => obd (xgr C (xis 4) a1 7) (fun ad3 => obd (xai C 0 ad3 a3) (fun v4 => (xcl C a1 = some 4 ∧ x_X4_slackIn a1 v4 a4 C (fun r6 C5 => (xcl C5 a1 = some 4 ∧ x_X4_holesIn a1 a4 C5 (fun r9 C8 => obd (xgr C8 (xis 4) a1 9) (fun ad11 => obd (xai C8 0 ad11 a3) (fun v12 => (xcl C8 a0 = some 2 ∧ x_X2_begins a0 a1 a2 v2 r6 r9 v12 C8 (fun ad14 C13 => K ad14 C13))))))))))))
theorem iX2_ofKind : xInf yX2_ofKind cX2_ofKind 5 (some (.object RX2)) 4 := ⟨q1143, by decide +kernel⟩
set_option maxHeartbeats 4000000 in
theorem xet_X2_ofKind (l : Launch) (a0 : Nat) (a1 : Nat) (a2 : Nat) (a3 : Int32) (a4 : Int32) (C : XH) (K : Nat → XH → Prop) (hs : x_X2_ofKind a0 a1 a2 a3 a4 C K) : xMetr l yX2_ofKind (ws_ yX2_ofKind cX2_ofKind 5 (some (.object RX2))) 6 136 0 0 C [.ref a0, .ref a1, .ref a2, .int a3, .int a4] K := by
  intro D dT adK adV sz
  refine xEnter (own := RX2) (Qc := xQr D dT K) (by decide) rfl (by rfl) ?_
  intro p e s m args below meth c A ls X hnm hK hA hG hI hl
  have hx := X.1
  have hb := X.2.1
  have hts := X.2.2.2.2.1
  have hown := X.2.2.2.2.2.1
  have hl : lv_has ls 5 [(0, .ref a0), (1, .ref a1), (2, .ref a2), (3, .int a3), (4, .int a4)] := hl
  unfold x_X2_ofKind at hs
  refine lv_aload_n hx hb dX2_ofKind_0 rfl (lv_at hl 0 rfl) ?_
  refine lv_aload_n hx hb dX2_ofKind_1 rfl (lv_at hl 1 rfl) ?_
  refine lv_aload_n hx hb dX2_ofKind_2 rfl (lv_at hl 2 rfl) ?_
  refine lv_aload_n hx hb dX2_ofKind_3 rfl (lv_at hl 1 rfl) ?_
  obtain ⟨ad1, ead1, hs⟩ := hs
  refine x_get (v := .ref ad1) X hK hI 4 7 rfl in_X4 rfl q274 rfl (xgr_spec ead1) dX2_ofKind_4 ?_
  refine lv_iload_n hx hb dX2_ofKind_7 rfl (lv_at hl 3 rfl) ?_
  obtain ⟨v2, ev2, hs⟩ := hs
  refine x_iald X hK hI ev2 dX2_ofKind_8 ?_
  refine lv_aload_n hx hb dX2_ofKind_9 rfl (lv_at hl 1 rfl) ?_
  refine lv_aload_n hx hb dX2_ofKind_10 rfl (lv_at hl 1 rfl) ?_
  obtain ⟨ad3, ead3, hs⟩ := hs
  refine x_get (v := .ref ad3) X hK hI 4 7 rfl in_X4 rfl q274 rfl (xgr_spec ead3) dX2_ofKind_11 ?_
  refine lv_iload_n hx hb dX2_ofKind_14 rfl (lv_at hl 3 rfl) ?_
  obtain ⟨v4, ev4, hs⟩ := hs
  refine x_iald X hK hI ev4 dX2_ofKind_15 ?_
  refine lv_iload hx hb dX2_ofKind_16 (lv_at hl 4 rfl) ?_
  obtain ⟨h6, hs⟩ := hs
  obtain ⟨fh6, h6⟩ := xcl_spec h6
  refine x_goi hA hI (x_runV (As := [.int v4, .int a4]) (rest := [.int v2, .ref a2, .ref a1, .ref a0]) X hK hA hG hI h6 (q := (RX4, TX4, 13)) rfl rfl (xet_X4_slackIn l a1 v4 a4 _ _ hs) iX4_slackIn q1144 q694 q695 q98 ⟨(Nat.le_of_ble_eq_true rfl), (Nat.le_of_ble_eq_true rfl)⟩ rfl hl.1 rfl (Nat.le_of_ble_eq_true rfl) dX2_ofKind_18 ⟨(Nat.le_of_ble_eq_true rfl), (Nat.le_of_ble_eq_true rfl)⟩) (fun r6 C5 H locs hs9 hI => ?_)
  replace hs := hs9
  refine lv_aload_n hx hb dX2_ofKind_21 rfl (lv_at hl 1 rfl) ?_
  refine lv_iload hx hb dX2_ofKind_22 (lv_at hl 4 rfl) ?_
  obtain ⟨h9, hs⟩ := hs
  obtain ⟨fh9, h9⟩ := xcl_spec h9
  refine x_goi hA hI (x_runV (As := [.int a4]) (rest := [.int r6, .int v2, .ref a2, .ref a1, .ref a0]) X hK hA hG hI h9 (q := (RX4, TX4, 13)) rfl rfl (xet_X4_holesIn l a1 a4 _ _ hs) iX4_holesIn q1145 q750 q751 q98 ⟨(Nat.le_of_ble_eq_true rfl), (Nat.le_of_ble_eq_true rfl)⟩ rfl hl.1 rfl (Nat.le_of_ble_eq_true rfl) dX2_ofKind_24 ⟨(Nat.le_of_ble_eq_true rfl), (Nat.le_of_ble_eq_true rfl)⟩) (fun r9 C8 H locs hs9 hI => ?_)
  replace hs := hs9
  refine lv_aload_n hx hb dX2_ofKind_27 rfl (lv_at hl 1 rfl) ?_
  obtain ⟨ad11, ead11, hs⟩ := hs
  refine x_get (v := .ref ad11) X hK hI 4 9 rfl in_X4 rfl q282 rfl (xgr_spec ead11) dX2_ofKind_28 ?_
  refine lv_iload_n hx hb dX2_ofKind_31 rfl (lv_at hl 3 rfl) ?_
  obtain ⟨v12, ev12, hs⟩ := hs
  refine x_iald X hK hI ev12 dX2_ofKind_32 ?_
  obtain ⟨h14, hs⟩ := hs
  obtain ⟨fh14, h14⟩ := xcl_spec h14
  refine x_gor hA hI (x_runV (As := [.ref a1, .ref a2, .int v2, .int r6, .int r9, .int v12]) (rest := []) X hK hA hG hI h14 (q := (RX2, TX2, 12)) rfl rfl (xet_X2_begins l a0 a1 a2 v2 r6 r9 v12 _ _ hs) iX2_begins q1146 q1148 qs17 q96 ⟨(Nat.le_of_ble_eq_true rfl), (Nat.le_of_ble_eq_true rfl)⟩ rfl hl.1 rfl (Nat.le_of_ble_eq_true rfl) dX2_ofKind_33 ⟨(Nat.le_of_ble_eq_true rfl), (Nat.le_of_ble_eq_true rfl)⟩) (fun ad14 C13 H locs hs9 hI => ?_)
  replace hs := hs9
  exact x_retr X hK hI hs (Nat.le_of_ble_eq_true rfl) (Nat.le_of_ble_eq_true rfl) dX2_ofKind_36
def x_X2_of (a0 : Nat) (a1 : Nat) (a2 : Int32) (C : XH) (K : Nat → XH → Prop) : Prop := obd (xgr C (xis 4) a1 6) (fun ad1 => obd (xar C 7 ad1 a2) (fun ad2 => obd (xgr C (xis 4) a1 8) (fun ad3 => obd (xai C 0 ad3 a2) (fun v4 => (xcl C a0 = some 2 ∧ x_X2_ofKind a0 a1 ad2 a2 v4 C (fun ad6 C5 => K ad6 C5))))))
theorem iX2_of : xInf yX2_of cX2_of 3 (some (.object RX2)) 2 := ⟨q1139, by decide +kernel⟩
set_option maxHeartbeats 4000000 in
theorem xet_X2_of (l : Launch) (a0 : Nat) (a1 : Nat) (a2 : Int32) (C : XH) (K : Nat → XH → Prop) (hs : x_X2_of a0 a1 a2 C K) : xMetr l yX2_of (ws_ yX2_of cX2_of 3 (some (.object RX2))) 7 160 0 0 C [.ref a0, .ref a1, .int a2] K := by
  intro D dT adK adV sz
  refine xEnter (own := RX2) (Qc := xQr D dT K) (by decide) rfl (by rfl) ?_
  intro p e s m args below meth c A ls X hnm hK hA hG hI hl
  have hx := X.1
  have hb := X.2.1
  have hts := X.2.2.2.2.1
  have hown := X.2.2.2.2.2.1
  have hl : lv_has ls 3 [(0, .ref a0), (1, .ref a1), (2, .int a2)] := hl
  unfold x_X2_of at hs
  refine lv_aload_n hx hb dX2_of_0 rfl (lv_at hl 0 rfl) ?_
  refine lv_aload_n hx hb dX2_of_1 rfl (lv_at hl 1 rfl) ?_
  refine lv_aload_n hx hb dX2_of_2 rfl (lv_at hl 1 rfl) ?_
  obtain ⟨ad1, ead1, hs⟩ := hs
  refine x_get (v := .ref ad1) X hK hI 4 6 rfl in_X4 rfl q270 rfl (xgr_spec ead1) dX2_of_3 ?_
  refine lv_iload_n hx hb dX2_of_6 rfl (lv_at hl 2 rfl) ?_
  obtain ⟨ad2, ead2, hs⟩ := hs
  refine x_aald X hK hI 7 rfl rfl ead2 dX2_of_7 ?_
  refine lv_iload_n hx hb dX2_of_8 rfl (lv_at hl 2 rfl) ?_
  refine lv_aload_n hx hb dX2_of_9 rfl (lv_at hl 1 rfl) ?_
  obtain ⟨ad3, ead3, hs⟩ := hs
  refine x_get (v := .ref ad3) X hK hI 4 8 rfl in_X4 rfl q278 rfl (xgr_spec ead3) dX2_of_10 ?_
  refine lv_iload_n hx hb dX2_of_13 rfl (lv_at hl 2 rfl) ?_
  obtain ⟨v4, ev4, hs⟩ := hs
  refine x_iald X hK hI ev4 dX2_of_14 ?_
  obtain ⟨h6, hs⟩ := hs
  obtain ⟨fh6, h6⟩ := xcl_spec h6
  refine x_gor hA hI (x_runV (As := [.ref a1, .ref ad2, .int a2, .int v4]) (rest := []) X hK hA hG hI h6 (q := (RX2, TX2, 12)) rfl rfl (xet_X2_ofKind l a0 a1 ad2 a2 v4 _ _ hs) iX2_ofKind q1140 q1141 q1142 q96 ⟨(Nat.le_of_ble_eq_true rfl), (Nat.le_of_ble_eq_true rfl)⟩ rfl hl.1 rfl (Nat.le_of_ble_eq_true rfl) dX2_of_15 ⟨(Nat.le_of_ble_eq_true rfl), (Nat.le_of_ble_eq_true rfl)⟩) (fun ad6 C5 H locs hs9 hI => ?_)
  replace hs := hs9
  exact x_retr X hK hI hs (Nat.le_of_ble_eq_true rfl) (Nat.le_of_ble_eq_true rfl) dX2_of_18
def x_X2_isThere (a0 : Nat) (C : XH) (K : Int32 → XH → Prop) : Prop := obd (xgi C (xis 2) a0 5) (fun v1 => obd (xgr C (xis 2) a0 0) (fun ad2 => obd (xgr C (xis 4) ad2 5) (fun ad3 => obd (xai C 0 ad3 0) (fun v4 => (if v1 < v4 then K 0 C else K 1 C)))))
theorem iX2_isThere : xInf yX2_isThere cX2_isThere 1 (some .boolean) 0 := ⟨q1161, by decide +kernel⟩
set_option maxHeartbeats 4000000 in
theorem xet_X2_isThere (l : Launch) (a0 : Nat) (C : XH) (K : Int32 → XH → Prop) (hs : x_X2_isThere a0 C K) : xMetz l yX2_isThere (ws_ yX2_isThere cX2_isThere 1 (some .boolean)) 0 0 0 0 C [.ref a0] K := by
  intro D dT adK adV sz
  refine xEnter (own := RX2) (Qc := xQz D dT K) (by decide) rfl (by rfl) ?_
  intro p e s m args below meth c A ls X hnm hK hA hG hI hl
  have hx := X.1
  have hb := X.2.1
  have hts := X.2.2.2.2.1
  have hown := X.2.2.2.2.2.1
  have hl : lv_has ls 1 [(0, .ref a0)] := hl
  unfold x_X2_isThere at hs
  refine lv_aload_n hx hb dX2_isThere_0 rfl (lv_at hl 0 rfl) ?_
  obtain ⟨v1, ev1, hs⟩ := hs
  refine x_get (v := .int v1) X hK hI 2 5 rfl in_X2 rfl q167 rfl (xgi_spec ev1) dX2_isThere_1 ?_
  refine lv_aload_n hx hb dX2_isThere_4 rfl (lv_at hl 0 rfl) ?_
  obtain ⟨ad2, ead2, hs⟩ := hs
  refine x_get (v := .ref ad2) X hK hI 2 0 rfl in_X2 rfl q162 rfl (xgr_spec ead2) dX2_isThere_5 ?_
  obtain ⟨ad3, ead3, hs⟩ := hs
  refine x_get (v := .ref ad3) X hK hI 4 5 rfl in_X4 rfl q266 rfl (xgr_spec ead3) dX2_isThere_8 ?_
  refine lv_iconst (v := 0) hx hb dX2_isThere_11 (by decide) ?_
  obtain ⟨v4, ev4, hs⟩ := hs
  refine x_iald X hK hI ev4 dX2_isThere_12 ?_
  refine lv_icmp_lt (tgt := 20) hx hb dX2_isThere_13 (by decide) (fun c4 => ?_) (fun c4 => ?_)
  · replace hs := ifp c4 hs
    refine lv_iconst (v := 0) hx hb dX2_isThere_20 (by decide) ?_
    exact x_retz X hK hI isB0 hs (Nat.le_of_ble_eq_true rfl) (Nat.le_of_ble_eq_true rfl) dX2_isThere_21
  · replace hs := ifn c4 hs
    refine lv_iconst (v := 1) hx hb dX2_isThere_16 (by decide) ?_
    refine lv_goto (tgt := 21) hx hb dX2_isThere_17 (by decide) ?_
    exact x_retz X hK hI isB1 hs (Nat.le_of_ble_eq_true rfl) (Nat.le_of_ble_eq_true rfl) dX2_isThere_21
def x_X2_goes (a0 : Nat) (a1 : Int32) (C : XH) (K : XH → Prop) : Prop := (if a1 = 0 then obd (xgi C (xis 2) a0 5) (fun v1 => obd (xgi C (xis 2) a0 1) (fun v2 => obd (xpv C (xis 2) a0 5 (.int (v1 + v2))) (fun C3 => K C3))) else obd (xgi C (xis 2) a0 9) (fun v4 => jn (fun (v5 : Int32) => obd (xpv C (xis 2) a0 10 (.int v5)) (fun C6 => obd (xgr C6 (xis 2) a0 0) (fun ad7 => obd (xgr C6 (xis 4) ad7 5) (fun ad8 => obd (xai C6 0 ad8 1) (fun v9 => obd (xpv C6 (xis 2) a0 8 (.int v9)) (fun C10 => obd (xgi C10 (xis 2) a0 9) (fun v11 => obd (xpv C10 (xis 2) a0 9 (.int (v11 + 1))) (fun C12 => K C12)))))))) (fun k23_5 => (if v4 = 0 then obd (xgi C (xis 2) a0 5) (fun v14 => k23_5 v14) else obd (xgi C (xis 2) a0 10) (fun v13 => k23_5 v13)))))
theorem iX2_goes : xInf yX2_goes cX2_goes 2 none 1 := ⟨q1188, by decide +kernel⟩
set_option maxHeartbeats 4000000 in
theorem xet_X2_goes (l : Launch) (a0 : Nat) (a1 : Int32) (C : XH) (K : XH → Prop) (hs : x_X2_goes a0 a1 C K) : xMetv l yX2_goes (ws_ yX2_goes cX2_goes 2 none) 0 0 0 0 C [.ref a0, .int a1] K := by
  intro D dT adK adV sz
  refine xEnter (own := RX2) (Qc := xQv D dT K) (by decide) rfl (by rfl) ?_
  intro p e s m args below meth c A ls X hnm hK hA hG hI hl
  have hx := X.1
  have hb := X.2.1
  have hts := X.2.2.2.2.1
  have hown := X.2.2.2.2.2.1
  have hl : lv_has ls 2 [(0, .ref a0), (1, .int a1)] := hl
  unfold x_X2_goes at hs
  refine lv_iload_n hx hb dX2_goes_0 rfl (lv_at hl 1 rfl) ?_
  refine lv_if_eq (tgt := 52) hx hb dX2_goes_1 (by decide) (fun c15 => ?_) (fun c15 => ?_)
  · replace hs := ifp c15 hs
    refine lv_aload_n hx hb dX2_goes_52 rfl (lv_at hl 0 rfl) ?_
    refine lv_dup hx hb dX2_goes_53 rfl ?_
    obtain ⟨v1, ev1, hs⟩ := hs
    refine x_get (v := .int v1) X hK hI 2 5 rfl in_X2 rfl q167 rfl (xgi_spec ev1) dX2_goes_54 ?_
    refine lv_aload_n hx hb dX2_goes_57 rfl (lv_at hl 0 rfl) ?_
    obtain ⟨v2, ev2, hs⟩ := hs
    refine x_get (v := .int v2) X hK hI 2 1 rfl in_X2 rfl q163 rfl (xgi_spec ev2) dX2_goes_58 ?_
    refine lv_iadd hx hb dX2_goes_61 ?_
    obtain ⟨C3, eC3, hs⟩ := hs
    refine x_put X hK hI 2 5 rfl in_X2 tyX2 tyX2_ok nmX2 rfl q167 rfl rfl rfl rfl eC3 dX2_goes_62 (fun H locs hI => ?_)
    exact x_retv X hK hI hs (Nat.le_of_ble_eq_true rfl) (Nat.le_of_ble_eq_true rfl) dX2_goes_65
  · replace hs := ifn c15 hs
    refine lv_aload_n hx hb dX2_goes_4 rfl (lv_at hl 0 rfl) ?_
    refine lv_aload_n hx hb dX2_goes_5 rfl (lv_at hl 0 rfl) ?_
    obtain ⟨v4, ev4, hs⟩ := hs
    refine x_get (v := .int v4) X hK hI 2 9 rfl in_X2 rfl q175 rfl (xgi_spec ev4) dX2_goes_6 ?_
    obtain ⟨k23_5, hk23_5, hs⟩ := jn_ex hs
    have Ek23_5 : ∀ (v5 : Int32) (H : Heap) (locs : List Loc) (ls : Array Slot), k23_5 v5 → xI D dT A s.heap C H locs → lv_has ls 2 [(0, .ref a0)] → W p l e (xRm 0 0 0 0) s m args below meth c H locs 0 0 (MQ below (xQv D dT K A) args s 0 0 A) (F0 m 23 ls [.int v5, .ref a0]) := by
      intro v5 H locs ls hs hI hl
      rw [hk23_5] at hs
      obtain ⟨C6, eC6, hs⟩ := hs
      refine x_put X hK hI 2 10 rfl in_X2 tyX2 tyX2_ok nmX2 rfl q177 rfl rfl rfl rfl eC6 dX2_goes_23 (fun H locs hI => ?_)
      refine lv_aload_n hx hb dX2_goes_26 rfl (lv_at hl 0 rfl) ?_
      refine lv_aload_n hx hb dX2_goes_27 rfl (lv_at hl 0 rfl) ?_
      obtain ⟨ad7, ead7, hs⟩ := hs
      refine x_get (v := .ref ad7) X hK hI 2 0 rfl in_X2 rfl q162 rfl (xgr_spec ead7) dX2_goes_28 ?_
      obtain ⟨ad8, ead8, hs⟩ := hs
      refine x_get (v := .ref ad8) X hK hI 4 5 rfl in_X4 rfl q266 rfl (xgr_spec ead8) dX2_goes_31 ?_
      refine lv_iconst (v := 1) hx hb dX2_goes_34 (by decide) ?_
      obtain ⟨v9, ev9, hs⟩ := hs
      refine x_iald X hK hI ev9 dX2_goes_35 ?_
      obtain ⟨C10, eC10, hs⟩ := hs
      refine x_put X hK hI 2 8 rfl in_X2 tyX2 tyX2_ok nmX2 rfl q173 rfl rfl rfl rfl eC10 dX2_goes_36 (fun H locs hI => ?_)
      refine lv_aload_n hx hb dX2_goes_39 rfl (lv_at hl 0 rfl) ?_
      refine lv_dup hx hb dX2_goes_40 rfl ?_
      obtain ⟨v11, ev11, hs⟩ := hs
      refine x_get (v := .int v11) X hK hI 2 9 rfl in_X2 rfl q175 rfl (xgi_spec ev11) dX2_goes_41 ?_
      refine lv_iconst (v := 1) hx hb dX2_goes_44 (by decide) ?_
      refine lv_iadd hx hb dX2_goes_45 ?_
      obtain ⟨C12, eC12, hs⟩ := hs
      refine x_put X hK hI 2 9 rfl in_X2 tyX2 tyX2_ok nmX2 rfl q175 rfl rfl rfl rfl eC12 dX2_goes_46 (fun H locs hI => ?_)
      refine lv_goto (tgt := 65) hx hb dX2_goes_49 (by decide) ?_
      exact x_retv X hK hI hs (Nat.le_of_ble_eq_true rfl) (Nat.le_of_ble_eq_true rfl) dX2_goes_65
    refine lv_if_ne (tgt := 19) hx hb dX2_goes_9 (by decide) (fun c14 => ?_) (fun c14 => ?_)
    · replace hs := ifn c14 hs
      refine lv_aload_n hx hb dX2_goes_19 rfl (lv_at hl 0 rfl) ?_
      obtain ⟨v13, ev13, hs⟩ := hs
      refine x_get (v := .int v13) X hK hI 2 10 rfl in_X2 rfl q177 rfl (xgi_spec ev13) dX2_goes_20 ?_
      exact Ek23_5 _ _ _ _ hs hI (lv_sub hl [0] rfl)
    · replace hs := ifp c14 hs
      refine lv_aload_n hx hb dX2_goes_12 rfl (lv_at hl 0 rfl) ?_
      obtain ⟨v14, ev14, hs⟩ := hs
      refine x_get (v := .int v14) X hK hI 2 5 rfl in_X2 rfl q167 rfl (xgi_spec ev14) dX2_goes_13 ?_
      refine lv_goto (tgt := 23) hx hb dX2_goes_16 (by decide) ?_
      exact Ek23_5 _ _ _ _ hs hI (lv_sub hl [0] rfl)
def x_X2_mends (a0 : Nat) (a1 : Int32) (C : XH) (K : XH → Prop) : Prop := obd (xgi C (xis 2) a0 6) (fun v1 => obd (xpv C (xis 2) a0 6 (.int (imin 60 (v1 + a1)))) (fun C2 => K C2))
theorem iX2_mends : xInf yX2_mends cX2_mends 2 none 1 := ⟨q1173, by decide +kernel⟩
set_option maxHeartbeats 4000000 in
theorem xet_X2_mends (l : Launch) (a0 : Nat) (a1 : Int32) (C : XH) (K : XH → Prop) (hs : x_X2_mends a0 a1 C K) : xMetv l yX2_mends (ws_ yX2_mends cX2_mends 2 none) 1 24 0 0 C [.ref a0, .int a1] K := by
  intro D dT adK adV sz
  refine xEnter (own := RX2) (Qc := xQv D dT K) (by decide) rfl (by rfl) ?_
  intro p e s m args below meth c A ls X hnm hK hA hG hI hl
  have hx := X.1
  have hb := X.2.1
  have hts := X.2.2.2.2.1
  have hown := X.2.2.2.2.2.1
  have hl : lv_has ls 2 [(0, .ref a0), (1, .int a1)] := hl
  unfold x_X2_mends at hs
  refine lv_aload_n hx hb dX2_mends_0 rfl (lv_at hl 0 rfl) ?_
  refine lv_bipush (v := 60) hx hb dX2_mends_1 (by decide) ?_
  refine lv_aload_n hx hb dX2_mends_3 rfl (lv_at hl 0 rfl) ?_
  obtain ⟨v1, ev1, hs⟩ := hs
  refine x_get (v := .int v1) X hK hI 2 6 rfl in_X2 rfl q169 rfl (xgi_spec ev1) dX2_mends_4 ?_
  refine lv_iload_n hx hb dX2_mends_7 rfl (lv_at hl 1 rfl) ?_
  refine lv_iadd hx hb dX2_mends_8 ?_
  refine va_mmin (rest := [.ref a0]) hx hb (X.2.2.2.1.trans hl.1.symm) hown (hts _ q1174) (hts _ q1175) (hts _ q116) (hts _ q1176) (Nat.le_of_ble_eq_true rfl) (Nat.le_of_ble_eq_true rfl) (Nat.le_of_ble_eq_true rfl) (Nat.le_of_ble_eq_true rfl) dX2_mends_9 ?_
  obtain ⟨C2, eC2, hs⟩ := hs
  refine x_put X hK hI 2 6 rfl in_X2 tyX2 tyX2_ok nmX2 rfl q169 rfl rfl rfl rfl eC2 dX2_mends_12 (fun H locs hI => ?_)
  exact x_retv X hK hI hs (Nat.le_of_ble_eq_true rfl) (Nat.le_of_ble_eq_true rfl) dX2_mends_15
def x_X2_lies (a0 : Nat) (C : XH) (K : XH → Prop) : Prop := obd (xgi C (xis 2) a0 8) (fun v1 => obd (xpv C (xis 2) a0 8 (.int (v1 - 1))) (fun C2 => (xcl C2 a0 = some 2 ∧ x_X2_mends a0 2 C2 (fun C3 => obd (xgi C3 (xis 2) a0 5) (fun v5 => obd (xgr C3 (xis 2) a0 0) (fun ad6 => obd (xgi C3 (xis 4) ad6 3) (fun v7 => (if v7 = 0 then obd (xpv C3 (xis 2) a0 5 (.int (v5 + 0))) (fun C8 => K C8) else obd (xpv C3 (xis 2) a0 5 (.int (v5 + 1))) (fun C9 => K C9)))))))))
theorem iX2_lies : xInf yX2_lies cX2_lies 1 none 0 := ⟨q1169, by decide +kernel⟩
set_option maxHeartbeats 4000000 in
theorem xet_X2_lies (l : Launch) (a0 : Nat) (C : XH) (K : XH → Prop) (hs : x_X2_lies a0 C K) : xMetv l yX2_lies (ws_ yX2_lies cX2_lies 1 none) 2 45 0 0 C [.ref a0] K := by
  intro D dT adK adV sz
  refine xEnter (own := RX2) (Qc := xQv D dT K) (by decide) rfl (by rfl) ?_
  intro p e s m args below meth c A ls X hnm hK hA hG hI hl
  have hx := X.1
  have hb := X.2.1
  have hts := X.2.2.2.2.1
  have hown := X.2.2.2.2.2.1
  have hl : lv_has ls 1 [(0, .ref a0)] := hl
  unfold x_X2_lies at hs
  refine lv_aload_n hx hb dX2_lies_0 rfl (lv_at hl 0 rfl) ?_
  refine lv_dup hx hb dX2_lies_1 rfl ?_
  obtain ⟨v1, ev1, hs⟩ := hs
  refine x_get (v := .int v1) X hK hI 2 8 rfl in_X2 rfl q173 rfl (xgi_spec ev1) dX2_lies_2 ?_
  refine lv_iconst (v := 1) hx hb dX2_lies_5 (by decide) ?_
  refine lv_isub hx hb dX2_lies_6 ?_
  obtain ⟨C2, eC2, hs⟩ := hs
  refine x_put X hK hI 2 8 rfl in_X2 tyX2 tyX2_ok nmX2 rfl q173 rfl rfl rfl rfl eC2 dX2_lies_7 (fun H locs hI => ?_)
  refine lv_aload_n hx hb dX2_lies_10 rfl (lv_at hl 0 rfl) ?_
  refine lv_iconst (v := 2) hx hb dX2_lies_11 (by decide) ?_
  obtain ⟨h3, hs⟩ := hs
  obtain ⟨fh3, h3⟩ := xcl_spec h3
  refine x_gov hA hI (x_runV (As := [.int 2]) (rest := []) X hK hA hG hI h3 (q := (RX2, TX2, 12)) rfl rfl (xet_X2_mends l a0 2 _ _ hs) iX2_mends q1170 q1172 qs19 q96 ⟨(Nat.le_of_ble_eq_true rfl), (Nat.le_of_ble_eq_true rfl)⟩ rfl hl.1 rfl (Nat.le_of_ble_eq_true rfl) dX2_lies_12 ⟨(Nat.le_of_ble_eq_true rfl), (Nat.le_of_ble_eq_true rfl)⟩) (fun C3 H locs hs9 hI => ?_)
  replace hs := hs9
  refine lv_aload_n hx hb dX2_lies_15 rfl (lv_at hl 0 rfl) ?_
  refine lv_dup hx hb dX2_lies_16 rfl ?_
  obtain ⟨v5, ev5, hs⟩ := hs
  refine x_get (v := .int v5) X hK hI 2 5 rfl in_X2 rfl q167 rfl (xgi_spec ev5) dX2_lies_17 ?_
  refine lv_aload_n hx hb dX2_lies_20 rfl (lv_at hl 0 rfl) ?_
  obtain ⟨ad6, ead6, hs⟩ := hs
  refine x_get (v := .ref ad6) X hK hI 2 0 rfl in_X2 rfl q162 rfl (xgr_spec ead6) dX2_lies_21 ?_
  obtain ⟨v7, ev7, hs⟩ := hs
  refine x_get (v := .int v7) X hK hI 4 3 rfl in_X4 rfl q261 rfl (xgi_spec ev7) dX2_lies_24 ?_
  refine lv_if_eq (tgt := 34) hx hb dX2_lies_27 (by decide) (fun c9 => ?_) (fun c9 => ?_)
  · replace hs := ifp c9 hs
    refine lv_iconst (v := 0) hx hb dX2_lies_34 (by decide) ?_
    refine lv_iadd hx hb dX2_lies_35 ?_
    obtain ⟨C8, eC8, hs⟩ := hs
    refine x_put X hK hI 2 5 rfl in_X2 tyX2 tyX2_ok nmX2 rfl q167 rfl rfl rfl rfl eC8 dX2_lies_36 (fun H locs hI => ?_)
    exact x_retv X hK hI hs (Nat.le_of_ble_eq_true rfl) (Nat.le_of_ble_eq_true rfl) dX2_lies_39
  · replace hs := ifn c9 hs
    refine lv_iconst (v := 1) hx hb dX2_lies_30 (by decide) ?_
    refine lv_goto (tgt := 35) hx hb dX2_lies_31 (by decide) ?_
    refine lv_iadd hx hb dX2_lies_35 ?_
    obtain ⟨C9, eC9, hs⟩ := hs
    refine x_put X hK hI 2 5 rfl in_X2 tyX2 tyX2_ok nmX2 rfl q167 rfl rfl rfl rfl eC9 dX2_lies_36 (fun H locs hI => ?_)
    exact x_retv X hK hI hs (Nat.le_of_ble_eq_true rfl) (Nat.le_of_ble_eq_true rfl) dX2_lies_39
def x_X2_puffs (a0 : Nat) (C : XH) (K : XH → Prop) : Prop := obd (xgi C (xis 2) a0 6) (fun v1 => obd (xgi C (xis 2) a0 2) (fun v2 => obd (xpv C (xis 2) a0 6 (.int (imax 0 (v1 - v2)))) (fun C3 => (xcl C3 a0 = some 2 ∧ x_X2_mends a0 1 C3 (fun C4 => K C4)))))
theorem iX2_puffs : xInf yX2_puffs cX2_puffs 1 none 0 := ⟨q1184, by decide +kernel⟩
set_option maxHeartbeats 4000000 in
theorem xet_X2_puffs (l : Launch) (a0 : Nat) (C : XH) (K : XH → Prop) (hs : x_X2_puffs a0 C K) : xMetv l yX2_puffs (ws_ yX2_puffs cX2_puffs 1 none) 2 45 0 0 C [.ref a0] K := by
  intro D dT adK adV sz
  refine xEnter (own := RX2) (Qc := xQv D dT K) (by decide) rfl (by rfl) ?_
  intro p e s m args below meth c A ls X hnm hK hA hG hI hl
  have hx := X.1
  have hb := X.2.1
  have hts := X.2.2.2.2.1
  have hown := X.2.2.2.2.2.1
  have hl : lv_has ls 1 [(0, .ref a0)] := hl
  unfold x_X2_puffs at hs
  refine lv_aload_n hx hb dX2_puffs_0 rfl (lv_at hl 0 rfl) ?_
  refine lv_iconst (v := 0) hx hb dX2_puffs_1 (by decide) ?_
  refine lv_aload_n hx hb dX2_puffs_2 rfl (lv_at hl 0 rfl) ?_
  obtain ⟨v1, ev1, hs⟩ := hs
  refine x_get (v := .int v1) X hK hI 2 6 rfl in_X2 rfl q169 rfl (xgi_spec ev1) dX2_puffs_3 ?_
  refine lv_aload_n hx hb dX2_puffs_6 rfl (lv_at hl 0 rfl) ?_
  obtain ⟨v2, ev2, hs⟩ := hs
  refine x_get (v := .int v2) X hK hI 2 2 rfl in_X2 rfl q164 rfl (xgi_spec ev2) dX2_puffs_7 ?_
  refine lv_isub hx hb dX2_puffs_10 ?_
  refine va_mmax (rest := [.ref a0]) hx hb (X.2.2.2.1.trans hl.1.symm) hown (hts _ q1153) (hts _ q717) (hts _ q116) (hts _ q718) (Nat.le_of_ble_eq_true rfl) (Nat.le_of_ble_eq_true rfl) (Nat.le_of_ble_eq_true rfl) (Nat.le_of_ble_eq_true rfl) dX2_puffs_11 ?_
  obtain ⟨C3, eC3, hs⟩ := hs
  refine x_put X hK hI 2 6 rfl in_X2 tyX2 tyX2_ok nmX2 rfl q169 rfl rfl rfl rfl eC3 dX2_puffs_14 (fun H locs hI => ?_)
  refine lv_aload_n hx hb dX2_puffs_17 rfl (lv_at hl 0 rfl) ?_
  refine lv_iconst (v := 1) hx hb dX2_puffs_18 (by decide) ?_
  obtain ⟨h4, hs⟩ := hs
  obtain ⟨fh4, h4⟩ := xcl_spec h4
  refine x_gov hA hI (x_runV (As := [.int 1]) (rest := []) X hK hA hG hI h4 (q := (RX2, TX2, 12)) rfl rfl (xet_X2_mends l a0 1 _ _ hs) iX2_mends q1170 q1172 qs19 q96 ⟨(Nat.le_of_ble_eq_true rfl), (Nat.le_of_ble_eq_true rfl)⟩ rfl hl.1 rfl (Nat.le_of_ble_eq_true rfl) dX2_puffs_19 ⟨(Nat.le_of_ble_eq_true rfl), (Nat.le_of_ble_eq_true rfl)⟩) (fun C4 H locs hs9 hI => ?_)
  replace hs := hs9
  exact x_retv X hK hI hs (Nat.le_of_ble_eq_true rfl) (Nat.le_of_ble_eq_true rfl) dX2_puffs_22
def x_X2_riskNow (a0 : Nat) (C : XH) (K : Int32 → XH → Prop) : Prop := obd (xgi C (xis 2) a0 3) (fun v1 => obd (xgi C (xis 2) a0 6) (fun v2 => obd (xgi C (xis 2) a0 2) (fun v3 => (if v3 ≤ v2 then K (v1 + 0) C else K (v1 + 20) C))))
theorem iX2_riskNow : xInf yX2_riskNow cX2_riskNow 1 (some .int) 0 := ⟨q1180, by decide +kernel⟩
set_option maxHeartbeats 4000000 in
theorem xet_X2_riskNow (l : Launch) (a0 : Nat) (C : XH) (K : Int32 → XH → Prop) (hs : x_X2_riskNow a0 C K) : xMeti l yX2_riskNow (ws_ yX2_riskNow cX2_riskNow 1 (some .int)) 0 0 0 0 C [.ref a0] K := by
  intro D dT adK adV sz
  refine xEnter (own := RX2) (Qc := xQi D dT K) (by decide) rfl (by rfl) ?_
  intro p e s m args below meth c A ls X hnm hK hA hG hI hl
  have hx := X.1
  have hb := X.2.1
  have hts := X.2.2.2.2.1
  have hown := X.2.2.2.2.2.1
  have hl : lv_has ls 1 [(0, .ref a0)] := hl
  unfold x_X2_riskNow at hs
  refine lv_aload_n hx hb dX2_riskNow_0 rfl (lv_at hl 0 rfl) ?_
  obtain ⟨v1, ev1, hs⟩ := hs
  refine x_get (v := .int v1) X hK hI 2 3 rfl in_X2 rfl q165 rfl (xgi_spec ev1) dX2_riskNow_1 ?_
  refine lv_aload_n hx hb dX2_riskNow_4 rfl (lv_at hl 0 rfl) ?_
  obtain ⟨v2, ev2, hs⟩ := hs
  refine x_get (v := .int v2) X hK hI 2 6 rfl in_X2 rfl q169 rfl (xgi_spec ev2) dX2_riskNow_5 ?_
  refine lv_aload_n hx hb dX2_riskNow_8 rfl (lv_at hl 0 rfl) ?_
  obtain ⟨v3, ev3, hs⟩ := hs
  refine x_get (v := .int v3) X hK hI 2 2 rfl in_X2 rfl q164 rfl (xgi_spec ev3) dX2_riskNow_9 ?_
  refine lv_icmp_ge (tgt := 20) hx hb dX2_riskNow_12 (by decide) (fun c3 => ?_) (fun c3 => ?_)
  · replace hs := ifp c3 hs
    refine lv_iconst (v := 0) hx hb dX2_riskNow_20 (by decide) ?_
    refine lv_iadd hx hb dX2_riskNow_21 ?_
    exact x_reti X hK hI hs (Nat.le_of_ble_eq_true rfl) (Nat.le_of_ble_eq_true rfl) dX2_riskNow_22
  · replace hs := ifn c3 hs
    refine lv_bipush (v := 20) hx hb dX2_riskNow_15 (by decide) ?_
    refine lv_goto (tgt := 21) hx hb dX2_riskNow_17 (by decide) ?_
    refine lv_iadd hx hb dX2_riskNow_21 ?_
    exact x_reti X hK hI hs (Nat.le_of_ble_eq_true rfl) (Nat.le_of_ble_eq_true rfl) dX2_riskNow_22
def x_X2_passes (a0 : Nat) (C : XH) (K : XH → Prop) : Prop := obd (xgi C (xis 2) a0 11) (fun v1 => obd (xpv C (xis 2) a0 11 (.int (v1 + 1))) (fun C2 => obd (xgi C2 (xis 2) a0 8) (fun v3 => (if v3 ≤ 0 then obd (xgi C2 (xis 2) a0 7) (fun v4 => (xcl C2 a0 = some 2 ∧ x_X2_riskNow a0 C2 (fun r6 C5 => obd (xpv C5 (xis 2) a0 7 (.int (v4 + r6))) (fun C8 => (xcl C8 a0 = some 2 ∧ x_X2_puffs a0 C8 (fun C9 => obd (xgi C9 (xis 2) a0 7) (fun v11 => jn (fun (v12 : Int32) => obd (xgi C9 (xis 2) a0 7) (fun v13 => jn (fun (v14 : Int32) => obd (xpv C9 (xis 2) a0 7 (.int (v13 - v14))) (fun C15 => (xcl C15 a0 = some 2 ∧ x_X2_goes a0 v12 C15 (fun C16 => K C16)))) (fun k69_14 => (if v12 = 0 then k69_14 0 else k69_14 100)))) (fun k53_12 => (if v11 < 100 then k53_12 0 else k53_12 1))))))))) else (xcl C2 a0 = some 2 ∧ x_X2_lies a0 C2 (fun C20 => K C20))))))
theorem iX2_passes : xInf yX2_passes cX2_passes 2 none 0 := ⟨q1165, by decide +kernel⟩
set_option maxHeartbeats 4000000 in
theorem xet_X2_passes (l : Launch) (a0 : Nat) (C : XH) (K : XH → Prop) (hs : x_X2_passes a0 C K) : xMetv l yX2_passes (ws_ yX2_passes cX2_passes 2 none) 3 65 0 0 C [.ref a0] K := by
  intro D dT adK adV sz
  refine xEnter (own := RX2) (Qc := xQv D dT K) (by decide) rfl (by rfl) ?_
  intro p e s m args below meth c A ls X hnm hK hA hG hI hl
  have hx := X.1
  have hb := X.2.1
  have hts := X.2.2.2.2.1
  have hown := X.2.2.2.2.2.1
  have hl : lv_has ls 2 [(0, .ref a0)] := hl
  unfold x_X2_passes at hs
  refine lv_aload_n hx hb dX2_passes_0 rfl (lv_at hl 0 rfl) ?_
  refine lv_dup hx hb dX2_passes_1 rfl ?_
  obtain ⟨v1, ev1, hs⟩ := hs
  refine x_get (v := .int v1) X hK hI 2 11 rfl in_X2 rfl q179 rfl (xgi_spec ev1) dX2_passes_2 ?_
  refine lv_iconst (v := 1) hx hb dX2_passes_5 (by decide) ?_
  refine lv_iadd hx hb dX2_passes_6 ?_
  obtain ⟨C2, eC2, hs⟩ := hs
  refine x_put X hK hI 2 11 rfl in_X2 tyX2 tyX2_ok nmX2 rfl q179 rfl rfl rfl rfl eC2 dX2_passes_7 (fun H locs hI => ?_)
  refine lv_aload_n hx hb dX2_passes_10 rfl (lv_at hl 0 rfl) ?_
  obtain ⟨v3, ev3, hs⟩ := hs
  refine x_get (v := .int v3) X hK hI 2 8 rfl in_X2 rfl q173 rfl (xgi_spec ev3) dX2_passes_11 ?_
  refine lv_if_le (tgt := 22) hx hb dX2_passes_14 (by decide) (fun c21 => ?_) (fun c21 => ?_)
  · replace hs := ifp c21 hs
    refine lv_aload_n hx hb dX2_passes_22 rfl (lv_at hl 0 rfl) ?_
    refine lv_dup hx hb dX2_passes_23 rfl ?_
    obtain ⟨v4, ev4, hs⟩ := hs
    refine x_get (v := .int v4) X hK hI 2 7 rfl in_X2 rfl q171 rfl (xgi_spec ev4) dX2_passes_24 ?_
    refine lv_aload_n hx hb dX2_passes_27 rfl (lv_at hl 0 rfl) ?_
    obtain ⟨h6, hs⟩ := hs
    obtain ⟨fh6, h6⟩ := xcl_spec h6
    refine x_goi hA hI (x_runV (As := []) (rest := [.int v4, .ref a0]) X hK hA hG hI h6 (q := (RX2, TX2, 12)) rfl rfl (xet_X2_riskNow l a0 _ _ hs) iX2_riskNow q1177 q1179 qs20 q96 ⟨(Nat.le_of_ble_eq_true rfl), (Nat.le_of_ble_eq_true rfl)⟩ rfl hl.1 rfl (Nat.le_of_ble_eq_true rfl) dX2_passes_28 ⟨(Nat.le_of_ble_eq_true rfl), (Nat.le_of_ble_eq_true rfl)⟩) (fun r6 C5 H locs hs9 hI => ?_)
    replace hs := hs9
    refine lv_iadd hx hb dX2_passes_31 ?_
    obtain ⟨C8, eC8, hs⟩ := hs
    refine x_put X hK hI 2 7 rfl in_X2 tyX2 tyX2_ok nmX2 rfl q171 rfl rfl rfl rfl eC8 dX2_passes_32 (fun H locs hI => ?_)
    refine lv_aload_n hx hb dX2_passes_35 rfl (lv_at hl 0 rfl) ?_
    obtain ⟨h9, hs⟩ := hs
    obtain ⟨fh9, h9⟩ := xcl_spec h9
    refine x_gov hA hI (x_runV (As := []) (rest := []) X hK hA hG hI h9 (q := (RX2, TX2, 12)) rfl rfl (xet_X2_puffs l a0 _ _ hs) iX2_puffs q1181 q1183 qs21 q96 ⟨(Nat.le_of_ble_eq_true rfl), (Nat.le_of_ble_eq_true rfl)⟩ rfl hl.1 rfl (Nat.le_of_ble_eq_true rfl) dX2_passes_36 ⟨(Nat.le_of_ble_eq_true rfl), (Nat.le_of_ble_eq_true rfl)⟩) (fun C9 H locs hs9 hI => ?_)
    replace hs := hs9
    refine lv_aload_n hx hb dX2_passes_39 rfl (lv_at hl 0 rfl) ?_
    obtain ⟨v11, ev11, hs⟩ := hs
    refine x_get (v := .int v11) X hK hI 2 7 rfl in_X2 rfl q171 rfl (xgi_spec ev11) dX2_passes_40 ?_
    refine lv_bipush (v := 100) hx hb dX2_passes_43 (by decide) ?_
    obtain ⟨k53_12, hk53_12, hs⟩ := jn_ex hs
    have Ek53_12 : ∀ (v12 : Int32) (H : Heap) (locs : List Loc) (ls : Array Slot), k53_12 v12 → xI D dT A s.heap C9 H locs → lv_has ls 2 [(0, .ref a0)] → W p l e (xRm 3 65 0 0) s m args below meth c H locs 0 0 (MQ below (xQv D dT K A) args s 0 0 A) (F0 m 53 ls [.int v12]) := by
      intro v12 H locs ls hs hI hl
      rw [hk53_12] at hs
      refine lv_istore_n (lv' := [(1, .int v12), (0, .ref a0)]) hx hb dX2_passes_53 rfl hl (by decide) rfl (fun ls hl => ?_)
      refine lv_aload_n hx hb dX2_passes_54 rfl (lv_at hl 1 rfl) ?_
      refine lv_dup hx hb dX2_passes_55 rfl ?_
      obtain ⟨v13, ev13, hs⟩ := hs
      refine x_get (v := .int v13) X hK hI 2 7 rfl in_X2 rfl q171 rfl (xgi_spec ev13) dX2_passes_56 ?_
      refine lv_iload_n hx hb dX2_passes_59 rfl (lv_at hl 0 rfl) ?_
      obtain ⟨k69_14, hk69_14, hs⟩ := jn_ex hs
      have Ek69_14 : ∀ (v14 : Int32) (H : Heap) (locs : List Loc) (ls : Array Slot), k69_14 v14 → xI D dT A s.heap C9 H locs → lv_has ls 2 [(0, .ref a0), (1, .int v12)] → W p l e (xRm 3 65 0 0) s m args below meth c H locs 0 0 (MQ below (xQv D dT K A) args s 0 0 A) (F0 m 69 ls [.int v14, .int v13, .ref a0]) := by
        intro v14 H locs ls hs hI hl
        rw [hk69_14] at hs
        refine lv_isub hx hb dX2_passes_69 ?_
        obtain ⟨C15, eC15, hs⟩ := hs
        refine x_put X hK hI 2 7 rfl in_X2 tyX2 tyX2_ok nmX2 rfl q171 rfl rfl rfl rfl eC15 dX2_passes_70 (fun H locs hI => ?_)
        refine lv_aload_n hx hb dX2_passes_73 rfl (lv_at hl 0 rfl) ?_
        refine lv_iload_n hx hb dX2_passes_74 rfl (lv_at hl 1 rfl) ?_
        obtain ⟨h16, hs⟩ := hs
        obtain ⟨fh16, h16⟩ := xcl_spec h16
        refine x_gov hA hI (x_runV (As := [.int v12]) (rest := []) X hK hA hG hI h16 (q := (RX2, TX2, 12)) rfl rfl (xet_X2_goes l a0 v12 _ _ hs) iX2_goes q1185 q1187 qs22 q96 ⟨(Nat.le_of_ble_eq_true rfl), (Nat.le_of_ble_eq_true rfl)⟩ rfl hl.1 rfl (Nat.le_of_ble_eq_true rfl) dX2_passes_75 ⟨(Nat.le_of_ble_eq_true rfl), (Nat.le_of_ble_eq_true rfl)⟩) (fun C16 H locs hs9 hI => ?_)
        replace hs := hs9
        exact x_retv X hK hI hs (Nat.le_of_ble_eq_true rfl) (Nat.le_of_ble_eq_true rfl) dX2_passes_78
      refine lv_if_eq (tgt := 68) hx hb dX2_passes_60 (by decide) (fun c17 => ?_) (fun c17 => ?_)
      · replace hs := ifp c17 hs
        refine lv_iconst (v := 0) hx hb dX2_passes_68 (by decide) ?_
        exact Ek69_14 _ _ _ _ hs hI (lv_sub hl [1, 0] rfl)
      · replace hs := ifn c17 hs
        refine lv_bipush (v := 100) hx hb dX2_passes_63 (by decide) ?_
        refine lv_goto (tgt := 69) hx hb dX2_passes_65 (by decide) ?_
        exact Ek69_14 _ _ _ _ hs hI (lv_sub hl [1, 0] rfl)
    refine lv_icmp_lt (tgt := 52) hx hb dX2_passes_45 (by decide) (fun c18 => ?_) (fun c18 => ?_)
    · replace hs := ifp c18 hs
      refine lv_iconst (v := 0) hx hb dX2_passes_52 (by decide) ?_
      exact Ek53_12 _ _ _ _ hs hI hl
    · replace hs := ifn c18 hs
      refine lv_iconst (v := 1) hx hb dX2_passes_48 (by decide) ?_
      refine lv_goto (tgt := 53) hx hb dX2_passes_49 (by decide) ?_
      exact Ek53_12 _ _ _ _ hs hI hl
  · replace hs := ifn c21 hs
    refine lv_aload_n hx hb dX2_passes_17 rfl (lv_at hl 0 rfl) ?_
    obtain ⟨h20, hs⟩ := hs
    obtain ⟨fh20, h20⟩ := xcl_spec h20
    refine x_gov hA hI (x_runV (As := []) (rest := []) X hK hA hG hI h20 (q := (RX2, TX2, 12)) rfl rfl (xet_X2_lies l a0 _ _ hs) iX2_lies q1166 q1168 qs18 q96 ⟨(Nat.le_of_ble_eq_true rfl), (Nat.le_of_ble_eq_true rfl)⟩ rfl hl.1 rfl (Nat.le_of_ble_eq_true rfl) dX2_passes_18 ⟨(Nat.le_of_ble_eq_true rfl), (Nat.le_of_ble_eq_true rfl)⟩) (fun C20 H locs hs9 hI => ?_)
    replace hs := hs9
    exact x_retv X hK hI hs (Nat.le_of_ble_eq_true rfl) (Nat.le_of_ble_eq_true rfl) dX2_passes_21
