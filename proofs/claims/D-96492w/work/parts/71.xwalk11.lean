set_option maxRecDepth 100000
def x_X3_of_l32 (a0 : Nat) (x9 : Int32) (k88_12 : XH → Prop) : Nat → Int32 → XH → Prop
  | 0, _, _ => False
  | n32_15 + 1, x14, C15 => obd (xgr C15 (xis 3) a0 4) (fun ad17 => obd (xgi C15 (xis 4) ad17 1) (fun v18 => (if v18 ≤ x14 then k88_12 C15 else obd (xgr C15 (xis 3) a0 0) (fun ad19 => obd (xar C15 6 ad19 x9) (fun ad20 => obd (xgr C15 (xis 3) a0 3) (fun ad21 => obd (xgr C15 (xis 3) a0 4) (fun ad22 => obd (xgr C15 (xis 3) a0 4) (fun ad23 => obd (xgr C15 (xis 4) ad23 6) (fun ad24 => obd (xar C15 7 ad24 x9) (fun ad25 => (xcl C15 ad21 = some 2 ∧ x_X2_ofKind ad21 ad22 ad25 x9 x14 C15 (fun ad27 C26 => (xcl C26 ad27 = some 2 ∧ x_X2_comesIn ad27 C26 (fun r30 C29 => obd (xsi C29 ad20 x14 r30) (fun C32 => x_X3_of_l32 a0 x9 k88_12 n32_15 (x14 + 1) C32)))))))))))))))
theorem x_X3_of_l32_s (a0 : Nat) (x9 : Int32) (k88_12 : XH → Prop) (n32_15 : Nat) (x14 : Int32) (C15 : XH) : x_X3_of_l32 a0 x9 k88_12 (n32_15 + 1) x14 C15 = (obd (xgr C15 (xis 3) a0 4) (fun ad17 => obd (xgi C15 (xis 4) ad17 1) (fun v18 => (if v18 ≤ x14 then k88_12 C15 else obd (xgr C15 (xis 3) a0 0) (fun ad19 => obd (xar C15 6 ad19 x9) (fun ad20 => obd (xgr C15 (xis 3) a0 3) (fun ad21 => obd (xgr C15 (xis 3) a0 4) (fun ad22 => obd (xgr C15 (xis 3) a0 4) (fun ad23 => obd (xgr C15 (xis 4) ad23 6) (fun ad24 => obd (xar C15 7 ad24 x9) (fun ad25 => (xcl C15 ad21 = some 2 ∧ x_X2_ofKind ad21 ad22 ad25 x9 x14 C15 (fun ad27 C26 => (xcl C26 ad27 = some 2 ∧ x_X2_comesIn ad27 C26 (fun r30 C29 => obd (xsi C29 ad20 x14 r30) (fun C32 => x_X3_of_l32 a0 x9 k88_12 n32_15 (x14 + 1) C32)))))))))))))))) := rfl
def x_X3_of_l23 (a0 : Nat) (a3 : Int32) (k94_5 : XH → Prop) : Nat → Int32 → XH → Prop
  | 0, _, _ => False
  | n23_10 + 1, x9, C10 => (if a3 ≤ x9 then k94_5 C10 else jn (fun (C12 : XH) => x_X3_of_l23 a0 a3 k94_5 n23_10 (x9 + 1) C12) (fun k88_12 => x_X3_of_l32 a0 x9 k88_12 NF 0 C10))
theorem x_X3_of_l23_s (a0 : Nat) (a3 : Int32) (k94_5 : XH → Prop) (n23_10 : Nat) (x9 : Int32) (C10 : XH) : x_X3_of_l23 a0 a3 k94_5 (n23_10 + 1) x9 C10 = ((if a3 ≤ x9 then k94_5 C10 else jn (fun (C12 : XH) => x_X3_of_l23 a0 a3 k94_5 n23_10 (x9 + 1) C12) (fun k88_12 => x_X3_of_l32 a0 x9 k88_12 NF 0 C10))) := rfl
def x_X3_of (a0 : Nat) (a1 : Nat) (a2 : Int32) (a3 : Int32) (C : XH) (K : Nat → XH → Prop) : Prop := obd (xpv C (xis 3) a0 4 (.ref a1)) (fun C1 => obd (xpv C1 (xis 3) a0 5 (.int a2)) (fun C2 => obd (xpv C2 (xis 3) a0 6 (.int a3)) (fun C3 => obd (xpv C3 (xis 3) a0 7 (.int (-1))) (fun C4 => jn (fun (C5 : XH) => (xcl C5 a0 = some 3 ∧ x_X3_seek 7 a0 0 0 C5 (fun C7 => K a0 C7))) (fun k94_5 => x_X3_of_l23 a0 a3 k94_5 NF 0 C4)))))
theorem iX3_of : xInf yX3_of cX3_of 6 (some (.object RX3)) 3 := ⟨q1258, by decide +kernel⟩
set_option maxHeartbeats 4000000 in
theorem xet_X3_of (l : Launch) (a0 : Nat) (a1 : Nat) (a2 : Int32) (a3 : Int32) (C : XH) (K : Nat → XH → Prop) (hs : x_X3_of a0 a1 a2 a3 C K) : xMetr l yX3_of (ws_ yX3_of cX3_of 6 (some (.object RX3))) 11 743 0 0 C [.ref a0, .ref a1, .int a2, .int a3] K := by
  intro D dT adK adV sz
  refine xEnter (own := RX3) (Qc := xQr D dT K) (by decide) rfl (by rfl) ?_
  intro p e s m args below meth c A ls X hnm hK hA hG hI hl
  have hx := X.1
  have hb := X.2.1
  have hts := X.2.2.2.2.1
  have hown := X.2.2.2.2.2.1
  have hl : lv_has ls 6 [(0, .ref a0), (1, .ref a1), (2, .int a2), (3, .int a3)] := hl
  unfold x_X3_of at hs
  refine lv_aload_n hx hb dX3_of_0 rfl (lv_at hl 0 rfl) ?_
  refine lv_aload_n hx hb dX3_of_1 rfl (lv_at hl 1 rfl) ?_
  obtain ⟨C1, eC1, hs⟩ := hs
  refine x_put X hK hI 3 4 rfl in_X3 tyX3 tyX3_ok nmX3 rfl q221 rfl rfl rfl rfl eC1 dX3_of_2 (fun H locs hI => ?_)
  refine lv_aload_n hx hb dX3_of_5 rfl (lv_at hl 0 rfl) ?_
  refine lv_iload_n hx hb dX3_of_6 rfl (lv_at hl 2 rfl) ?_
  obtain ⟨C2, eC2, hs⟩ := hs
  refine x_put X hK hI 3 5 rfl in_X3 tyX3 tyX3_ok nmX3 rfl q222 rfl rfl rfl rfl eC2 dX3_of_7 (fun H locs hI => ?_)
  refine lv_aload_n hx hb dX3_of_10 rfl (lv_at hl 0 rfl) ?_
  refine lv_iload_n hx hb dX3_of_11 rfl (lv_at hl 3 rfl) ?_
  obtain ⟨C3, eC3, hs⟩ := hs
  refine x_put X hK hI 3 6 rfl in_X3 tyX3 tyX3_ok nmX3 rfl q223 rfl rfl rfl rfl eC3 dX3_of_12 (fun H locs hI => ?_)
  refine lv_aload_n hx hb dX3_of_15 rfl (lv_at hl 0 rfl) ?_
  refine lv_iconst (v := (-1)) hx hb dX3_of_16 (by decide) ?_
  obtain ⟨C4, eC4, hs⟩ := hs
  refine x_put X hK hI 3 7 rfl in_X3 tyX3 tyX3_ok nmX3 rfl q224 rfl rfl rfl rfl eC4 dX3_of_17 (fun H locs hI => ?_)
  refine lv_iconst (v := 0) hx hb dX3_of_20 (by decide) ?_
  refine lv_istore (lv' := [(4, .int 0), (0, .ref a0), (1, .ref a1), (2, .int a2), (3, .int a3)]) hx hb dX3_of_21 hl (by decide) rfl (fun ls hl => ?_)
  obtain ⟨k94_5, hk94_5, hs⟩ := jn_ex hs
  have Ek94_5 : ∀ (C5 : XH) (H : Heap) (locs : List Loc) (ls : Array Slot), k94_5 C5 → xI D dT A s.heap C5 H locs → lv_has ls 6 [(0, .ref a0)] → W p l e (xRm 11 743 0 0) s m args below meth c H locs 0 0 (MQ below (xQr D dT K A) args s 0 0 A) (F0 m 94 ls []) := by
    intro C5 H locs ls hs hI hl
    rw [hk94_5] at hs
    refine lv_aload_n hx hb dX3_of_94 rfl (lv_at hl 0 rfl) ?_
    refine lv_iconst (v := 0) hx hb dX3_of_95 (by decide) ?_
    refine lv_iconst (v := 0) hx hb dX3_of_96 (by decide) ?_
    obtain ⟨h7, hs⟩ := hs
    obtain ⟨fh7, h7⟩ := xcl_spec h7
    refine x_gov hA hI (x_runV (As := [.int 0, .int 0]) (rest := []) X hK hA hG hI h7 (q := (RX3, TX3, 8)) rfl rfl (xet_X3_seek l 7 a0 0 0 _ _ hs) iX3_seek q1261 q1263 qs32 q97 ⟨(Nat.le_of_ble_eq_true rfl), (Nat.le_of_ble_eq_true rfl)⟩ rfl hl.1 rfl (Nat.le_of_ble_eq_true rfl) dX3_of_97 ⟨(Nat.le_of_ble_eq_true rfl), (Nat.le_of_ble_eq_true rfl)⟩) (fun C7 H locs hs9 hI => ?_)
    replace hs := hs9
    refine lv_aload_n hx hb dX3_of_100 rfl (lv_at hl 0 rfl) ?_
    exact x_retr X hK hI hs (Nat.le_of_ble_eq_true rfl) (Nat.le_of_ble_eq_true rfl) dX3_of_101
  have Lx_X3_of_l23 : ∀ (n23_10 : Nat) (x9 : Int32) (C10 : XH) (H : Heap) (locs : List Loc) (ls : Array Slot), x_X3_of_l23 a0 a3 k94_5 n23_10 x9 C10 → xI D dT A s.heap C10 H locs → lv_has ls 6 [(0, .ref a0), (3, .int a3), (4, .int x9)] → W p l e (xRm 11 743 0 0) s m args below meth c H locs 0 0 (MQ below (xQr D dT K A) args s 0 0 A) (F0 m 23 ls []) := by
    intro n23_10
    induction n23_10 with
    | zero =>
      intro x9 C10 H locs ls hs
      exact False.elim hs
    | succ n23_10 ihx_X3_of_l23 =>
      intro x9 C10 H locs ls hs hI hl
      rw [x_X3_of_l23_s] at hs
      refine lv_iload hx hb dX3_of_23 (lv_at hl 2 rfl) ?_
      refine lv_iload_n hx hb dX3_of_25 rfl (lv_at hl 1 rfl) ?_
      refine lv_icmp_ge (tgt := 94) hx hb dX3_of_26 (by decide) (fun c33 => ?_) (fun c33 => ?_)
      · replace hs := ifp c33 hs
        exact Ek94_5 _ _ _ _ hs hI (lv_sub hl [0] rfl)
      · replace hs := ifn c33 hs
        refine lv_iconst (v := 0) hx hb dX3_of_29 (by decide) ?_
        refine lv_istore (lv' := [(5, .int 0), (0, .ref a0), (3, .int a3), (4, .int x9)]) hx hb dX3_of_30 hl (by decide) rfl (fun ls hl => ?_)
        obtain ⟨k88_12, hk88_12, hs⟩ := jn_ex hs
        have Ek88_12 : ∀ (C12 : XH) (H : Heap) (locs : List Loc) (ls : Array Slot), k88_12 C12 → xI D dT A s.heap C12 H locs → lv_has ls 6 [(0, .ref a0), (3, .int a3), (4, .int x9)] → W p l e (xRm 11 743 0 0) s m args below meth c H locs 0 0 (MQ below (xQr D dT K A) args s 0 0 A) (F0 m 88 ls []) := by
          intro C12 H locs ls hs hI hl
          rw [hk88_12] at hs
          refine lv_iinc (v := (x9 + 1)) (lv' := [(4, .int (x9 + 1)), (0, .ref a0), (3, .int a3)]) hx hb dX3_of_88 hl (k := 2) rfl (congrArg (fun z => x9 + z) (show Int32.ofInt (1) = 1 by decide)) (by decide) rfl (fun ls hl => ?_)
          refine lv_goto (tgt := 23) hx hb dX3_of_91 (by decide) ?_
          exact ihx_X3_of_l23 _ _ _ _ _ hs hI (lv_sub hl [1, 2, 0] rfl)
        have Lx_X3_of_l32 : ∀ (n32_15 : Nat) (x14 : Int32) (C15 : XH) (H : Heap) (locs : List Loc) (ls : Array Slot), x_X3_of_l32 a0 x9 k88_12 n32_15 x14 C15 → xI D dT A s.heap C15 H locs → lv_has ls 6 [(0, .ref a0), (3, .int a3), (4, .int x9), (5, .int x14)] → W p l e (xRm 11 743 0 0) s m args below meth c H locs 0 0 (MQ below (xQr D dT K A) args s 0 0 A) (F0 m 32 ls []) := by
          intro n32_15
          induction n32_15 with
          | zero =>
            intro x14 C15 H locs ls hs
            exact False.elim hs
          | succ n32_15 ihx_X3_of_l32 =>
            intro x14 C15 H locs ls hs hI hl
            rw [x_X3_of_l32_s] at hs
            refine lv_iload hx hb dX3_of_32 (lv_at hl 3 rfl) ?_
            refine lv_aload_n hx hb dX3_of_34 rfl (lv_at hl 0 rfl) ?_
            obtain ⟨ad17, ead17, hs⟩ := hs
            refine x_get (v := .ref ad17) X hK hI 3 4 rfl in_X3 rfl q221 rfl (xgr_spec ead17) dX3_of_35 ?_
            obtain ⟨v18, ev18, hs⟩ := hs
            refine x_get (v := .int v18) X hK hI 4 1 rfl in_X4 rfl q255 rfl (xgi_spec ev18) dX3_of_38 ?_
            refine lv_icmp_ge (tgt := 88) hx hb dX3_of_41 (by decide) (fun c32 => ?_) (fun c32 => ?_)
            · replace hs := ifp c32 hs
              exact Ek88_12 _ _ _ _ hs hI (lv_sub hl [0, 1, 2] rfl)
            · replace hs := ifn c32 hs
              refine lv_aload_n hx hb dX3_of_44 rfl (lv_at hl 0 rfl) ?_
              obtain ⟨ad19, ead19, hs⟩ := hs
              refine x_get (v := .ref ad19) X hK hI 3 0 rfl in_X3 rfl q216 rfl (xgr_spec ead19) dX3_of_45 ?_
              refine lv_iload hx hb dX3_of_48 (lv_at hl 2 rfl) ?_
              obtain ⟨ad20, ead20, hs⟩ := hs
              refine x_aald X hK hI 6 rfl rfl ead20 dX3_of_50 ?_
              refine lv_iload hx hb dX3_of_51 (lv_at hl 3 rfl) ?_
              refine lv_aload_n hx hb dX3_of_53 rfl (lv_at hl 0 rfl) ?_
              obtain ⟨ad21, ead21, hs⟩ := hs
              refine x_get (v := .ref ad21) X hK hI 3 3 rfl in_X3 rfl q220 rfl (xgr_spec ead21) dX3_of_54 ?_
              refine lv_aload_n hx hb dX3_of_57 rfl (lv_at hl 0 rfl) ?_
              obtain ⟨ad22, ead22, hs⟩ := hs
              refine x_get (v := .ref ad22) X hK hI 3 4 rfl in_X3 rfl q221 rfl (xgr_spec ead22) dX3_of_58 ?_
              refine lv_aload_n hx hb dX3_of_61 rfl (lv_at hl 0 rfl) ?_
              obtain ⟨ad23, ead23, hs⟩ := hs
              refine x_get (v := .ref ad23) X hK hI 3 4 rfl in_X3 rfl q221 rfl (xgr_spec ead23) dX3_of_62 ?_
              obtain ⟨ad24, ead24, hs⟩ := hs
              refine x_get (v := .ref ad24) X hK hI 4 6 rfl in_X4 rfl q271 rfl (xgr_spec ead24) dX3_of_65 ?_
              refine lv_iload hx hb dX3_of_68 (lv_at hl 2 rfl) ?_
              obtain ⟨ad25, ead25, hs⟩ := hs
              refine x_aald X hK hI 7 rfl rfl ead25 dX3_of_70 ?_
              refine lv_iload hx hb dX3_of_71 (lv_at hl 2 rfl) ?_
              refine lv_iload hx hb dX3_of_73 (lv_at hl 3 rfl) ?_
              obtain ⟨h27, hs⟩ := hs
              obtain ⟨fh27, h27⟩ := xcl_spec h27
              refine x_gor hA hI (x_runV (As := [.ref ad22, .ref ad25, .int x9, .int x14]) (rest := [.int x14, .ref ad20]) X hK hA hG hI h27 (q := (RX2, TX2, 12)) rfl rfl (xet_X2_ofKind l ad21 ad22 ad25 x9 x14 _ _ hs) iX2_ofKind q1259 q1141 q1142 q96 ⟨(Nat.le_of_ble_eq_true rfl), (Nat.le_of_ble_eq_true rfl)⟩ rfl hl.1 rfl (Nat.le_of_ble_eq_true rfl) dX3_of_75 ⟨(Nat.le_of_ble_eq_true rfl), (Nat.le_of_ble_eq_true rfl)⟩) (fun ad27 C26 H locs hs9 hI => ?_)
              replace hs := hs9
              obtain ⟨h30, hs⟩ := hs
              obtain ⟨fh30, h30⟩ := xcl_spec h30
              refine x_goi hA hI (x_runV (As := []) (rest := [.int x14, .ref ad20]) X hK hA hG hI h30 (q := (RX2, TX2, 12)) rfl rfl (xet_X2_comesIn l ad27 _ _ hs) iX2_comesIn q1260 q1198 q1199 q96 ⟨(Nat.le_of_ble_eq_true rfl), (Nat.le_of_ble_eq_true rfl)⟩ rfl hl.1 rfl (Nat.le_of_ble_eq_true rfl) dX3_of_78 ⟨(Nat.le_of_ble_eq_true rfl), (Nat.le_of_ble_eq_true rfl)⟩) (fun r30 C29 H locs hs9 hI => ?_)
              replace hs := hs9
              obtain ⟨C32, eC32, hs⟩ := hs
              refine x_iast X hK hI eC32 dX3_of_81 (fun H locs hI => ?_)
              refine lv_iinc (v := (x14 + 1)) (lv' := [(5, .int (x14 + 1)), (0, .ref a0), (3, .int a3), (4, .int x9)]) hx hb dX3_of_82 hl (k := 3) rfl (congrArg (fun z => x14 + z) (show Int32.ofInt (1) = 1 by decide)) (by decide) rfl (fun ls hl => ?_)
              refine lv_goto (tgt := 32) hx hb dX3_of_85 (by decide) ?_
              exact ihx_X3_of_l32 _ _ _ _ _ hs hI (lv_sub hl [1, 2, 3, 0] rfl)
        exact Lx_X3_of_l32 NF _ _ _ _ _ hs hI (lv_sub hl [1, 2, 3, 0] rfl)
  exact Lx_X3_of_l23 NF _ _ _ _ _ hs hI (lv_sub hl [1, 4, 0] rfl)
def x_X0_given (a0 : Nat) (a1 : Int32) (a2 : Int32) (a3 : Int32) (C : XH) (K : Int32 → XH → Prop) : Prop := x_X0_in ((a1 : Int32).toInt64) 0 2 C (fun r2 C1 => jn (fun (C3 : XH) => jn (fun (C4 : XH) => x_X0_need 1 (-5) C4 (fun C5 => x_X0_need 0 (-6) C5 (fun C6 => obd (xgr C6 (xis 0) a0 5) (fun ad7 => obd (xgr C6 (xis 0) a0 7) (fun ad8 => (xcl C6 ad7 = some 3 ∧ x_X3_of ad7 ad8 a1 a2 C6 (fun ad10 C9 => (if a3 = (-1) then obd (xgr C9 (xis 0) a0 5) (fun ad15 => obd (xgi C9 (xis 3) ad15 7) (fun v16 => K v16 C9)) else obd (xgr C9 (xis 0) a0 5) (fun ad12 => obd (xgr C9 (xis 3) ad12 2) (fun ad13 => obd (xai C9 0 ad13 a3) (fun v14 => K v14 C9))))))))) (fun ad18 C19 => (xcl C19 a0 = some 0 ∧ x_X0_refused a0 ad18 C19 (fun r21 C20 => K r21 C20)))) (fun ad23 C24 => (xcl C24 a0 = some 0 ∧ x_X0_refused a0 ad23 C24 (fun r26 C25 => K r26 C25)))) (fun k73_4 => jn (fun (v28 : Int32) (C29 : XH) => x_X0_need v28 (-5) C29 (fun C30 => x_X0_need 0 (-6) C30 (fun C31 => obd (xgr C31 (xis 0) a0 5) (fun ad32 => obd (xgr C31 (xis 0) a0 7) (fun ad33 => (xcl C31 ad32 = some 3 ∧ x_X3_of ad32 ad33 a1 a2 C31 (fun ad35 C34 => (if a3 = (-1) then obd (xgr C34 (xis 0) a0 5) (fun ad40 => obd (xgi C34 (xis 3) ad40 7) (fun v41 => K v41 C34)) else obd (xgr C34 (xis 0) a0 5) (fun ad37 => obd (xgr C34 (xis 3) ad37 2) (fun ad38 => obd (xai C34 0 ad38 a3) (fun v39 => K v39 C34))))))))) (fun ad43 C44 => (xcl C44 a0 = some 0 ∧ x_X0_refused a0 ad43 C44 (fun r46 C45 => K r46 C45)))) (fun ad48 C49 => (xcl C49 a0 = some 0 ∧ x_X0_refused a0 ad48 C49 (fun r51 C50 => K r51 C50)))) (fun k78_29 => k73_4 C3))) (fun k50_3 => jn (fun (v53 : Int32) (C54 : XH) => jn (fun (C55 : XH) => x_X0_need 1 (-5) C55 (fun C56 => x_X0_need v53 (-6) C56 (fun C57 => obd (xgr C57 (xis 0) a0 5) (fun ad58 => obd (xgr C57 (xis 0) a0 7) (fun ad59 => (xcl C57 ad58 = some 3 ∧ x_X3_of ad58 ad59 a1 a2 C57 (fun ad61 C60 => (if a3 = (-1) then obd (xgr C60 (xis 0) a0 5) (fun ad66 => obd (xgi C60 (xis 3) ad66 7) (fun v67 => K v67 C60)) else obd (xgr C60 (xis 0) a0 5) (fun ad63 => obd (xgr C60 (xis 3) ad63 2) (fun ad64 => obd (xai C60 0 ad64 a3) (fun v65 => K v65 C60))))))))) (fun ad69 C70 => (xcl C70 a0 = some 0 ∧ x_X0_refused a0 ad69 C70 (fun r72 C71 => K r72 C71)))) (fun ad74 C75 => (xcl C75 a0 = some 0 ∧ x_X0_refused a0 ad74 C75 (fun r77 C76 => K r77 C76)))) (fun k73_55 => jn (fun (v79 : Int32) (C80 : XH) => x_X0_need v79 (-5) C80 (fun C81 => x_X0_need v53 (-6) C81 (fun C82 => obd (xgr C82 (xis 0) a0 5) (fun ad83 => obd (xgr C82 (xis 0) a0 7) (fun ad84 => (xcl C82 ad83 = some 3 ∧ x_X3_of ad83 ad84 a1 a2 C82 (fun ad86 C85 => (if a3 = (-1) then obd (xgr C85 (xis 0) a0 5) (fun ad91 => obd (xgi C85 (xis 3) ad91 7) (fun v92 => K v92 C85)) else obd (xgr C85 (xis 0) a0 5) (fun ad88 => obd (xgr C85 (xis 3) ad88 2) (fun ad89 => obd (xai C85 0 ad89 a3) (fun v90 => K v90 C85))))))))) (fun ad94 C95 => (xcl C95 a0 = some 0 ∧ x_X0_refused a0 ad94 C95 (fun r97 C96 => K r97 C96)))) (fun ad99 C100 => (xcl C100 a0 = some 0 ∧ x_X0_refused a0 ad99 C100 (fun r102 C101 => K r102 C101)))) (fun k78_80 => (if v53 = 0 then k73_55 C54 else x_X0_in ((a3 : Int32).toInt64) (-1) (((a2 - 1) : Int32).toInt64) C54 (fun r105 C104 => (if r105 = 0 then k78_80 0 C104 else k73_55 C104)))))) (fun k51_54 => (if r2 = 0 then k50_3 C1 else x_X0_in ((a2 : Int32).toInt64) 1 5 C1 (fun r109 C108 => (if r109 = 0 then k50_3 C108 else obd (xgr C108 (xis 0) a0 7) (fun ad110 => obd (xgi C108 (xis 4) ad110 0) (fun v111 => (if v111 < a2 then k50_3 C108 else obd (xgr C108 (xis 0) a0 7) (fun ad112 => obd (xgi C108 (xis 4) ad112 1) (fun v113 => (if v113 < a2 then k50_3 C108 else k51_54 1 C108))))))))))))
theorem iX0_given : xInfW yX0_given cX0_given 5 (some .int) [(0, 128, 129, 21)] 3 := ⟨q1251, by decide +kernel⟩
set_option maxHeartbeats 4000000 in
theorem xet_X0_given (l : Launch) (hl0 : l.stackTraces = false) (a0 : Nat) (a1 : Int32) (a2 : Int32) (a3 : Int32) (C : XH) (K : Int32 → XH → Prop) (hs : x_X0_given a0 a1 a2 a3 C K) : xMetX l yX0_given (wsW_ yX0_given cX0_given 5 (some .int) [(0, 128, 129, 21)]) 12 768 2 14 C [.ref a0, .int a1, .int a2, .int a3] (fun D dT A => xQi D dT K A) xE0 := by
  intro D dT adK adV sz
  refine xEnterW (own := RX0) (Qc := xQi D dT K) (XC := xXC D dT xE0) (by decide) rfl (by rfl) ?_
  intro p e s m args below meth c A ls X hnm hK hA hG hT hI hl
  have hx := X.1
  have hb := X.2.1
  have hts := X.2.2.2.2.1
  have hown := X.2.2.2.2.2.1
  have hl : lv_has ls 5 [(0, .ref a0), (1, .int a1), (2, .int a2), (3, .int a3)] := hl
  unfold x_X0_given at hs
  refine lv_iload_n hx hb dX0_given_0 rfl (lv_at hl 1 rfl) ?_
  refine lv_i2l (v := ((a1 : Int32).toInt64)) hx hb dX0_given_1 rfl ?_
  refine lv_lconst (v := 0) hx hb dX0_given_2 (by decide) ?_
  refine lv_ldc2 hx hb hown (hts _ q1252) dX0_given_3 ?_
  refine x_goz hA hI (x_runS (As := [.long ((a1 : Int32).toInt64), .long 0, .long 2]) (rest := []) X hK hA hG hI (xet_X0_in l ((a1 : Int32).toInt64) 0 2 _ _ hs) iX0_in q473 q474 q94 ⟨(Nat.le_of_ble_eq_true rfl), (Nat.le_of_ble_eq_true rfl)⟩ rfl hl.1 rfl (Nat.le_of_ble_eq_true rfl) dX0_given_6 ⟨(Nat.le_of_ble_eq_true rfl), (Nat.le_of_ble_eq_true rfl)⟩) (fun r2 C1 H locs br2 hs9 hI => ?_)
  replace hs := hs9
  obtain ⟨k50_3, hk50_3, hs⟩ := jn_ex hs
  have Ek50_3 : ∀ (C3 : XH) (H : Heap) (locs : List Loc) (ls : Array Slot), k50_3 C3 → xI D dT A s.heap C3 H locs → lv_has ls 5 [(0, .ref a0), (1, .int a1), (2, .int a2), (3, .int a3)] → W p l e (xRm 12 768 2 14) s m args below meth c H locs 0 0 (vx_MQ below (xQi D dT K A) (xXC D dT xE0 A) args s 2 14 A) (F0 m 50 ls []) := by
    intro C3 H locs ls hs hI hl
    rw [hk50_3] at hs
    refine lv_iconst (v := 0) hx hb dX0_given_50 (by decide) ?_
    refine lv_istore (lv' := [(4, .int 0), (0, .ref a0), (1, .int a1), (2, .int a2), (3, .int a3)]) hx hb dX0_given_51 hl (by decide) rfl (fun ls hl => ?_)
    refine lv_iload hx hb dX0_given_53 (lv_at hl 0 rfl) ?_
    obtain ⟨k73_4, hk73_4, hs⟩ := jn_ex hs
    have Ek73_4 : ∀ (C4 : XH) (H : Heap) (locs : List Loc) (ls : Array Slot), k73_4 C4 → xI D dT A s.heap C4 H locs → lv_has ls 5 [(0, .ref a0), (1, .int a1), (2, .int a2), (3, .int a3), (4, .int 0)] → W p l e (xRm 12 768 2 14) s m args below meth c H locs 0 0 (vx_MQ below (xQi D dT K A) (xXC D dT xE0 A) args s 2 14 A) (F0 m 73 ls []) := by
      intro C4 H locs ls hs hI hl
      rw [hk73_4] at hs
      refine lv_iconst (v := 1) hx hb dX0_given_73 (by decide) ?_
      refine lv_goto (tgt := 78) hx hb dX0_given_74 (by decide) ?_
      refine lv_bipush (v := (-5)) hx hb dX0_given_78 (by decide) ?_
      refine xT_gov hA hI (x_runST (As := [.int 1, .int (-5)]) (rest := []) X hK hA hG hI (xet_X0_need l hl0 1 (-5) _ _ _ hs) iX0_need q469 q470 q94 ⟨(Nat.le_of_ble_eq_true rfl), (Nat.le_of_ble_eq_true rfl)⟩ rfl hl.1 rfl (Nat.le_of_ble_eq_true rfl) dX0_given_80 ⟨(Nat.le_of_ble_eq_true rfl), (Nat.le_of_ble_eq_true rfl)⟩) (fun En ce ad23 C24 H locs hs9 hI hce hvm hcl => ?_) (fun C5 H locs hs9 hI => ?_)
      · obtain ⟨rfl, hs0⟩ := hs9
        replace hs := hs0
        refine x_catch (k := 0) (a1 := 0) (a2 := 128) (a3 := 129) (a4 := 21) X hG hT rfl (x_cov rfl) rfl (by decide) q363 (by decide) hce hvm hcl ?_
        refine lv_astore (lv' := [(4, .ref ad23), (0, .ref a0), (1, .int a1), (2, .int a2), (3, .int a3)]) hx hb dX0_given_129 hl (by decide) rfl (fun ls hl => ?_)
        refine lv_aload_n hx hb dX0_given_131 rfl (lv_at hl 1 rfl) ?_
        refine lv_aload hx hb dX0_given_132 (lv_at hl 0 rfl) ?_
        obtain ⟨h26, hs⟩ := hs
        obtain ⟨fh26, h26⟩ := xcl_spec h26
        refine x_goi hA hI (x_runV (As := [.ref ad23]) (rest := []) X hK hA hG hI h26 (q := (RX0, TX0, 10)) rfl rfl (xet_X0_refused l a0 ad23 _ _ hs) iX0_refused q538 q540 qs2 q94 ⟨(Nat.le_of_ble_eq_true rfl), (Nat.le_of_ble_eq_true rfl)⟩ rfl hl.1 rfl (Nat.le_of_ble_eq_true rfl) dX0_given_134 ⟨(Nat.le_of_ble_eq_true rfl), (Nat.le_of_ble_eq_true rfl)⟩) (fun r26 C25 H locs hs9 hI => ?_)
        replace hs := hs9
        exact vx_ret (x_reti X hK hI hs (Nat.le_of_ble_eq_true rfl) (Nat.le_of_ble_eq_true rfl) dX0_given_137)
      · replace hs := hs9
        refine lv_iload hx hb dX0_given_83 (lv_at hl 4 rfl) ?_
        refine lv_bipush (v := (-6)) hx hb dX0_given_85 (by decide) ?_
        refine xT_gov hA hI (x_runST (As := [.int 0, .int (-6)]) (rest := []) X hK hA hG hI (xet_X0_need l hl0 0 (-6) _ _ _ hs) iX0_need q469 q470 q94 ⟨(Nat.le_of_ble_eq_true rfl), (Nat.le_of_ble_eq_true rfl)⟩ rfl hl.1 rfl (Nat.le_of_ble_eq_true rfl) dX0_given_87 ⟨(Nat.le_of_ble_eq_true rfl), (Nat.le_of_ble_eq_true rfl)⟩) (fun En ce ad18 C19 H locs hs9 hI hce hvm hcl => ?_) (fun C6 H locs hs9 hI => ?_)
        · obtain ⟨rfl, hs0⟩ := hs9
          replace hs := hs0
          refine x_catch (k := 0) (a1 := 0) (a2 := 128) (a3 := 129) (a4 := 21) X hG hT rfl (x_cov rfl) rfl (by decide) q363 (by decide) hce hvm hcl ?_
          refine lv_astore (lv' := [(4, .ref ad18), (0, .ref a0), (1, .int a1), (2, .int a2), (3, .int a3)]) hx hb dX0_given_129 hl (by decide) rfl (fun ls hl => ?_)
          refine lv_aload_n hx hb dX0_given_131 rfl (lv_at hl 1 rfl) ?_
          refine lv_aload hx hb dX0_given_132 (lv_at hl 0 rfl) ?_
          obtain ⟨h21, hs⟩ := hs
          obtain ⟨fh21, h21⟩ := xcl_spec h21
          refine x_goi hA hI (x_runV (As := [.ref ad18]) (rest := []) X hK hA hG hI h21 (q := (RX0, TX0, 10)) rfl rfl (xet_X0_refused l a0 ad18 _ _ hs) iX0_refused q538 q540 qs2 q94 ⟨(Nat.le_of_ble_eq_true rfl), (Nat.le_of_ble_eq_true rfl)⟩ rfl hl.1 rfl (Nat.le_of_ble_eq_true rfl) dX0_given_134 ⟨(Nat.le_of_ble_eq_true rfl), (Nat.le_of_ble_eq_true rfl)⟩) (fun r21 C20 H locs hs9 hI => ?_)
          replace hs := hs9
          exact vx_ret (x_reti X hK hI hs (Nat.le_of_ble_eq_true rfl) (Nat.le_of_ble_eq_true rfl) dX0_given_137)
        · replace hs := hs9
          refine lv_aload_n hx hb dX0_given_90 rfl (lv_at hl 0 rfl) ?_
          obtain ⟨ad7, ead7, hs⟩ := hs
          refine x_get (v := .ref ad7) X hK hI 0 5 rfl in_X0 rfl q333 rfl (xgr_spec ead7) dX0_given_91 ?_
          refine lv_aload_n hx hb dX0_given_94 rfl (lv_at hl 0 rfl) ?_
          obtain ⟨ad8, ead8, hs⟩ := hs
          refine x_get (v := .ref ad8) X hK hI 0 7 rfl in_X0 rfl q335 rfl (xgr_spec ead8) dX0_given_95 ?_
          refine lv_iload_n hx hb dX0_given_98 rfl (lv_at hl 1 rfl) ?_
          refine lv_iload_n hx hb dX0_given_99 rfl (lv_at hl 2 rfl) ?_
          obtain ⟨h10, hs⟩ := hs
          obtain ⟨fh10, h10⟩ := xcl_spec h10
          refine x_gor hA hI (x_runV (As := [.ref ad8, .int a1, .int a2]) (rest := []) X hK hA hG hI h10 (q := (RX3, TX3, 8)) rfl rfl (xet_X3_of l ad7 ad8 a1 a2 _ _ hs) iX3_of q1255 q1256 q1257 q97 ⟨(Nat.le_of_ble_eq_true rfl), (Nat.le_of_ble_eq_true rfl)⟩ rfl hl.1 rfl (Nat.le_of_ble_eq_true rfl) dX0_given_100 ⟨(Nat.le_of_ble_eq_true rfl), (Nat.le_of_ble_eq_true rfl)⟩) (fun ad10 C9 H locs hs9 hI => ?_)
          replace hs := hs9
          refine lv_pop hx hb dX0_given_103 rfl ?_
          refine lv_iload_n hx hb dX0_given_104 rfl (lv_at hl 3 rfl) ?_
          refine lv_iconst (v := (-1)) hx hb dX0_given_105 (by decide) ?_
          refine lv_icmp_ne (tgt := 119) hx hb dX0_given_106 (by decide) (fun c16 => ?_) (fun c16 => ?_)
          · replace hs := ifn c16 hs
            refine lv_aload_n hx hb dX0_given_119 rfl (lv_at hl 0 rfl) ?_
            obtain ⟨ad12, ead12, hs⟩ := hs
            refine x_get (v := .ref ad12) X hK hI 0 5 rfl in_X0 rfl q333 rfl (xgr_spec ead12) dX0_given_120 ?_
            obtain ⟨ad13, ead13, hs⟩ := hs
            refine x_get (v := .ref ad13) X hK hI 3 2 rfl in_X3 rfl q219 rfl (xgr_spec ead13) dX0_given_123 ?_
            refine lv_iload_n hx hb dX0_given_126 rfl (lv_at hl 3 rfl) ?_
            obtain ⟨v14, ev14, hs⟩ := hs
            refine x_iald X hK hI ev14 dX0_given_127 ?_
            exact vx_ret (x_reti X hK hI hs (Nat.le_of_ble_eq_true rfl) (Nat.le_of_ble_eq_true rfl) dX0_given_128)
          · replace hs := ifp c16 hs
            refine lv_aload_n hx hb dX0_given_109 rfl (lv_at hl 0 rfl) ?_
            obtain ⟨ad15, ead15, hs⟩ := hs
            refine x_get (v := .ref ad15) X hK hI 0 5 rfl in_X0 rfl q333 rfl (xgr_spec ead15) dX0_given_110 ?_
            obtain ⟨v16, ev16, hs⟩ := hs
            refine x_get (v := .int v16) X hK hI 3 7 rfl in_X3 rfl q225 rfl (xgi_spec ev16) dX0_given_113 ?_
            refine lv_goto (tgt := 128) hx hb dX0_given_116 (by decide) ?_
            exact vx_ret (x_reti X hK hI hs (Nat.le_of_ble_eq_true rfl) (Nat.le_of_ble_eq_true rfl) dX0_given_128)
    obtain ⟨k78_29, hk78_29, hs⟩ := jn_ex hs
    have Ek78_29 : ∀ (v28 : Int32) (C29 : XH) (H : Heap) (locs : List Loc) (ls : Array Slot), k78_29 v28 C29 → xI D dT A s.heap C29 H locs → lv_has ls 5 [(0, .ref a0), (1, .int a1), (2, .int a2), (3, .int a3), (4, .int 0)] → W p l e (xRm 12 768 2 14) s m args below meth c H locs 0 0 (vx_MQ below (xQi D dT K A) (xXC D dT xE0 A) args s 2 14 A) (F0 m 78 ls [.int v28]) := by
      intro v28 C29 H locs ls hs hI hl
      rw [hk78_29] at hs
      refine lv_bipush (v := (-5)) hx hb dX0_given_78 (by decide) ?_
      refine xT_gov hA hI (x_runST (As := [.int v28, .int (-5)]) (rest := []) X hK hA hG hI (xet_X0_need l hl0 v28 (-5) _ _ _ hs) iX0_need q469 q470 q94 ⟨(Nat.le_of_ble_eq_true rfl), (Nat.le_of_ble_eq_true rfl)⟩ rfl hl.1 rfl (Nat.le_of_ble_eq_true rfl) dX0_given_80 ⟨(Nat.le_of_ble_eq_true rfl), (Nat.le_of_ble_eq_true rfl)⟩) (fun En ce ad48 C49 H locs hs9 hI hce hvm hcl => ?_) (fun C30 H locs hs9 hI => ?_)
      · obtain ⟨rfl, hs0⟩ := hs9
        replace hs := hs0
        refine x_catch (k := 0) (a1 := 0) (a2 := 128) (a3 := 129) (a4 := 21) X hG hT rfl (x_cov rfl) rfl (by decide) q363 (by decide) hce hvm hcl ?_
        refine lv_astore (lv' := [(4, .ref ad48), (0, .ref a0), (1, .int a1), (2, .int a2), (3, .int a3)]) hx hb dX0_given_129 hl (by decide) rfl (fun ls hl => ?_)
        refine lv_aload_n hx hb dX0_given_131 rfl (lv_at hl 1 rfl) ?_
        refine lv_aload hx hb dX0_given_132 (lv_at hl 0 rfl) ?_
        obtain ⟨h51, hs⟩ := hs
        obtain ⟨fh51, h51⟩ := xcl_spec h51
        refine x_goi hA hI (x_runV (As := [.ref ad48]) (rest := []) X hK hA hG hI h51 (q := (RX0, TX0, 10)) rfl rfl (xet_X0_refused l a0 ad48 _ _ hs) iX0_refused q538 q540 qs2 q94 ⟨(Nat.le_of_ble_eq_true rfl), (Nat.le_of_ble_eq_true rfl)⟩ rfl hl.1 rfl (Nat.le_of_ble_eq_true rfl) dX0_given_134 ⟨(Nat.le_of_ble_eq_true rfl), (Nat.le_of_ble_eq_true rfl)⟩) (fun r51 C50 H locs hs9 hI => ?_)
        replace hs := hs9
        exact vx_ret (x_reti X hK hI hs (Nat.le_of_ble_eq_true rfl) (Nat.le_of_ble_eq_true rfl) dX0_given_137)
      · replace hs := hs9
        refine lv_iload hx hb dX0_given_83 (lv_at hl 4 rfl) ?_
        refine lv_bipush (v := (-6)) hx hb dX0_given_85 (by decide) ?_
        refine xT_gov hA hI (x_runST (As := [.int 0, .int (-6)]) (rest := []) X hK hA hG hI (xet_X0_need l hl0 0 (-6) _ _ _ hs) iX0_need q469 q470 q94 ⟨(Nat.le_of_ble_eq_true rfl), (Nat.le_of_ble_eq_true rfl)⟩ rfl hl.1 rfl (Nat.le_of_ble_eq_true rfl) dX0_given_87 ⟨(Nat.le_of_ble_eq_true rfl), (Nat.le_of_ble_eq_true rfl)⟩) (fun En ce ad43 C44 H locs hs9 hI hce hvm hcl => ?_) (fun C31 H locs hs9 hI => ?_)
        · obtain ⟨rfl, hs0⟩ := hs9
          replace hs := hs0
          refine x_catch (k := 0) (a1 := 0) (a2 := 128) (a3 := 129) (a4 := 21) X hG hT rfl (x_cov rfl) rfl (by decide) q363 (by decide) hce hvm hcl ?_
          refine lv_astore (lv' := [(4, .ref ad43), (0, .ref a0), (1, .int a1), (2, .int a2), (3, .int a3)]) hx hb dX0_given_129 hl (by decide) rfl (fun ls hl => ?_)
          refine lv_aload_n hx hb dX0_given_131 rfl (lv_at hl 1 rfl) ?_
          refine lv_aload hx hb dX0_given_132 (lv_at hl 0 rfl) ?_
          obtain ⟨h46, hs⟩ := hs
          obtain ⟨fh46, h46⟩ := xcl_spec h46
          refine x_goi hA hI (x_runV (As := [.ref ad43]) (rest := []) X hK hA hG hI h46 (q := (RX0, TX0, 10)) rfl rfl (xet_X0_refused l a0 ad43 _ _ hs) iX0_refused q538 q540 qs2 q94 ⟨(Nat.le_of_ble_eq_true rfl), (Nat.le_of_ble_eq_true rfl)⟩ rfl hl.1 rfl (Nat.le_of_ble_eq_true rfl) dX0_given_134 ⟨(Nat.le_of_ble_eq_true rfl), (Nat.le_of_ble_eq_true rfl)⟩) (fun r46 C45 H locs hs9 hI => ?_)
          replace hs := hs9
          exact vx_ret (x_reti X hK hI hs (Nat.le_of_ble_eq_true rfl) (Nat.le_of_ble_eq_true rfl) dX0_given_137)
        · replace hs := hs9
          refine lv_aload_n hx hb dX0_given_90 rfl (lv_at hl 0 rfl) ?_
          obtain ⟨ad32, ead32, hs⟩ := hs
          refine x_get (v := .ref ad32) X hK hI 0 5 rfl in_X0 rfl q333 rfl (xgr_spec ead32) dX0_given_91 ?_
          refine lv_aload_n hx hb dX0_given_94 rfl (lv_at hl 0 rfl) ?_
          obtain ⟨ad33, ead33, hs⟩ := hs
          refine x_get (v := .ref ad33) X hK hI 0 7 rfl in_X0 rfl q335 rfl (xgr_spec ead33) dX0_given_95 ?_
          refine lv_iload_n hx hb dX0_given_98 rfl (lv_at hl 1 rfl) ?_
          refine lv_iload_n hx hb dX0_given_99 rfl (lv_at hl 2 rfl) ?_
          obtain ⟨h35, hs⟩ := hs
          obtain ⟨fh35, h35⟩ := xcl_spec h35
          refine x_gor hA hI (x_runV (As := [.ref ad33, .int a1, .int a2]) (rest := []) X hK hA hG hI h35 (q := (RX3, TX3, 8)) rfl rfl (xet_X3_of l ad32 ad33 a1 a2 _ _ hs) iX3_of q1255 q1256 q1257 q97 ⟨(Nat.le_of_ble_eq_true rfl), (Nat.le_of_ble_eq_true rfl)⟩ rfl hl.1 rfl (Nat.le_of_ble_eq_true rfl) dX0_given_100 ⟨(Nat.le_of_ble_eq_true rfl), (Nat.le_of_ble_eq_true rfl)⟩) (fun ad35 C34 H locs hs9 hI => ?_)
          replace hs := hs9
          refine lv_pop hx hb dX0_given_103 rfl ?_
          refine lv_iload_n hx hb dX0_given_104 rfl (lv_at hl 3 rfl) ?_
          refine lv_iconst (v := (-1)) hx hb dX0_given_105 (by decide) ?_
          refine lv_icmp_ne (tgt := 119) hx hb dX0_given_106 (by decide) (fun c41 => ?_) (fun c41 => ?_)
          · replace hs := ifn c41 hs
            refine lv_aload_n hx hb dX0_given_119 rfl (lv_at hl 0 rfl) ?_
            obtain ⟨ad37, ead37, hs⟩ := hs
            refine x_get (v := .ref ad37) X hK hI 0 5 rfl in_X0 rfl q333 rfl (xgr_spec ead37) dX0_given_120 ?_
            obtain ⟨ad38, ead38, hs⟩ := hs
            refine x_get (v := .ref ad38) X hK hI 3 2 rfl in_X3 rfl q219 rfl (xgr_spec ead38) dX0_given_123 ?_
            refine lv_iload_n hx hb dX0_given_126 rfl (lv_at hl 3 rfl) ?_
            obtain ⟨v39, ev39, hs⟩ := hs
            refine x_iald X hK hI ev39 dX0_given_127 ?_
            exact vx_ret (x_reti X hK hI hs (Nat.le_of_ble_eq_true rfl) (Nat.le_of_ble_eq_true rfl) dX0_given_128)
          · replace hs := ifp c41 hs
            refine lv_aload_n hx hb dX0_given_109 rfl (lv_at hl 0 rfl) ?_
            obtain ⟨ad40, ead40, hs⟩ := hs
            refine x_get (v := .ref ad40) X hK hI 0 5 rfl in_X0 rfl q333 rfl (xgr_spec ead40) dX0_given_110 ?_
            obtain ⟨v41, ev41, hs⟩ := hs
            refine x_get (v := .int v41) X hK hI 3 7 rfl in_X3 rfl q225 rfl (xgi_spec ev41) dX0_given_113 ?_
            refine lv_goto (tgt := 128) hx hb dX0_given_116 (by decide) ?_
            exact vx_ret (x_reti X hK hI hs (Nat.le_of_ble_eq_true rfl) (Nat.le_of_ble_eq_true rfl) dX0_given_128)
    refine lv_if_eq (tgt := 73) hx hb dX0_given_55 (by decide) (fun _ => ?_) (fun c => absurd (by decide) c)
    exact Ek73_4 _ _ _ _ hs hI (lv_sub hl [1, 2, 3, 4, 0] rfl)
  obtain ⟨k51_54, hk51_54, hs⟩ := jn_ex hs
  have Ek51_54 : ∀ (v53 : Int32) (C54 : XH) (H : Heap) (locs : List Loc) (ls : Array Slot), k51_54 v53 C54 → xI D dT A s.heap C54 H locs → lv_has ls 5 [(0, .ref a0), (1, .int a1), (2, .int a2), (3, .int a3)] → W p l e (xRm 12 768 2 14) s m args below meth c H locs 0 0 (vx_MQ below (xQi D dT K A) (xXC D dT xE0 A) args s 2 14 A) (F0 m 51 ls [.int v53]) := by
    intro v53 C54 H locs ls hs hI hl
    rw [hk51_54] at hs
    refine lv_istore (lv' := [(4, .int v53), (0, .ref a0), (1, .int a1), (2, .int a2), (3, .int a3)]) hx hb dX0_given_51 hl (by decide) rfl (fun ls hl => ?_)
    refine lv_iload hx hb dX0_given_53 (lv_at hl 0 rfl) ?_
    obtain ⟨k73_55, hk73_55, hs⟩ := jn_ex hs
    have Ek73_55 : ∀ (C55 : XH) (H : Heap) (locs : List Loc) (ls : Array Slot), k73_55 C55 → xI D dT A s.heap C55 H locs → lv_has ls 5 [(0, .ref a0), (1, .int a1), (2, .int a2), (3, .int a3), (4, .int v53)] → W p l e (xRm 12 768 2 14) s m args below meth c H locs 0 0 (vx_MQ below (xQi D dT K A) (xXC D dT xE0 A) args s 2 14 A) (F0 m 73 ls []) := by
      intro C55 H locs ls hs hI hl
      rw [hk73_55] at hs
      refine lv_iconst (v := 1) hx hb dX0_given_73 (by decide) ?_
      refine lv_goto (tgt := 78) hx hb dX0_given_74 (by decide) ?_
      refine lv_bipush (v := (-5)) hx hb dX0_given_78 (by decide) ?_
      refine xT_gov hA hI (x_runST (As := [.int 1, .int (-5)]) (rest := []) X hK hA hG hI (xet_X0_need l hl0 1 (-5) _ _ _ hs) iX0_need q469 q470 q94 ⟨(Nat.le_of_ble_eq_true rfl), (Nat.le_of_ble_eq_true rfl)⟩ rfl hl.1 rfl (Nat.le_of_ble_eq_true rfl) dX0_given_80 ⟨(Nat.le_of_ble_eq_true rfl), (Nat.le_of_ble_eq_true rfl)⟩) (fun En ce ad74 C75 H locs hs9 hI hce hvm hcl => ?_) (fun C56 H locs hs9 hI => ?_)
      · obtain ⟨rfl, hs0⟩ := hs9
        replace hs := hs0
        refine x_catch (k := 0) (a1 := 0) (a2 := 128) (a3 := 129) (a4 := 21) X hG hT rfl (x_cov rfl) rfl (by decide) q363 (by decide) hce hvm hcl ?_
        refine lv_astore (lv' := [(4, .ref ad74), (0, .ref a0), (1, .int a1), (2, .int a2), (3, .int a3)]) hx hb dX0_given_129 hl (by decide) rfl (fun ls hl => ?_)
        refine lv_aload_n hx hb dX0_given_131 rfl (lv_at hl 1 rfl) ?_
        refine lv_aload hx hb dX0_given_132 (lv_at hl 0 rfl) ?_
        obtain ⟨h77, hs⟩ := hs
        obtain ⟨fh77, h77⟩ := xcl_spec h77
        refine x_goi hA hI (x_runV (As := [.ref ad74]) (rest := []) X hK hA hG hI h77 (q := (RX0, TX0, 10)) rfl rfl (xet_X0_refused l a0 ad74 _ _ hs) iX0_refused q538 q540 qs2 q94 ⟨(Nat.le_of_ble_eq_true rfl), (Nat.le_of_ble_eq_true rfl)⟩ rfl hl.1 rfl (Nat.le_of_ble_eq_true rfl) dX0_given_134 ⟨(Nat.le_of_ble_eq_true rfl), (Nat.le_of_ble_eq_true rfl)⟩) (fun r77 C76 H locs hs9 hI => ?_)
        replace hs := hs9
        exact vx_ret (x_reti X hK hI hs (Nat.le_of_ble_eq_true rfl) (Nat.le_of_ble_eq_true rfl) dX0_given_137)
      · replace hs := hs9
        refine lv_iload hx hb dX0_given_83 (lv_at hl 4 rfl) ?_
        refine lv_bipush (v := (-6)) hx hb dX0_given_85 (by decide) ?_
        refine xT_gov hA hI (x_runST (As := [.int v53, .int (-6)]) (rest := []) X hK hA hG hI (xet_X0_need l hl0 v53 (-6) _ _ _ hs) iX0_need q469 q470 q94 ⟨(Nat.le_of_ble_eq_true rfl), (Nat.le_of_ble_eq_true rfl)⟩ rfl hl.1 rfl (Nat.le_of_ble_eq_true rfl) dX0_given_87 ⟨(Nat.le_of_ble_eq_true rfl), (Nat.le_of_ble_eq_true rfl)⟩) (fun En ce ad69 C70 H locs hs9 hI hce hvm hcl => ?_) (fun C57 H locs hs9 hI => ?_)
        · obtain ⟨rfl, hs0⟩ := hs9
          replace hs := hs0
          refine x_catch (k := 0) (a1 := 0) (a2 := 128) (a3 := 129) (a4 := 21) X hG hT rfl (x_cov rfl) rfl (by decide) q363 (by decide) hce hvm hcl ?_
          refine lv_astore (lv' := [(4, .ref ad69), (0, .ref a0), (1, .int a1), (2, .int a2), (3, .int a3)]) hx hb dX0_given_129 hl (by decide) rfl (fun ls hl => ?_)
          refine lv_aload_n hx hb dX0_given_131 rfl (lv_at hl 1 rfl) ?_
          refine lv_aload hx hb dX0_given_132 (lv_at hl 0 rfl) ?_
          obtain ⟨h72, hs⟩ := hs
          obtain ⟨fh72, h72⟩ := xcl_spec h72
          refine x_goi hA hI (x_runV (As := [.ref ad69]) (rest := []) X hK hA hG hI h72 (q := (RX0, TX0, 10)) rfl rfl (xet_X0_refused l a0 ad69 _ _ hs) iX0_refused q538 q540 qs2 q94 ⟨(Nat.le_of_ble_eq_true rfl), (Nat.le_of_ble_eq_true rfl)⟩ rfl hl.1 rfl (Nat.le_of_ble_eq_true rfl) dX0_given_134 ⟨(Nat.le_of_ble_eq_true rfl), (Nat.le_of_ble_eq_true rfl)⟩) (fun r72 C71 H locs hs9 hI => ?_)
          replace hs := hs9
          exact vx_ret (x_reti X hK hI hs (Nat.le_of_ble_eq_true rfl) (Nat.le_of_ble_eq_true rfl) dX0_given_137)
        · replace hs := hs9
          refine lv_aload_n hx hb dX0_given_90 rfl (lv_at hl 0 rfl) ?_
          obtain ⟨ad58, ead58, hs⟩ := hs
          refine x_get (v := .ref ad58) X hK hI 0 5 rfl in_X0 rfl q333 rfl (xgr_spec ead58) dX0_given_91 ?_
          refine lv_aload_n hx hb dX0_given_94 rfl (lv_at hl 0 rfl) ?_
          obtain ⟨ad59, ead59, hs⟩ := hs
          refine x_get (v := .ref ad59) X hK hI 0 7 rfl in_X0 rfl q335 rfl (xgr_spec ead59) dX0_given_95 ?_
          refine lv_iload_n hx hb dX0_given_98 rfl (lv_at hl 1 rfl) ?_
          refine lv_iload_n hx hb dX0_given_99 rfl (lv_at hl 2 rfl) ?_
          obtain ⟨h61, hs⟩ := hs
          obtain ⟨fh61, h61⟩ := xcl_spec h61
          refine x_gor hA hI (x_runV (As := [.ref ad59, .int a1, .int a2]) (rest := []) X hK hA hG hI h61 (q := (RX3, TX3, 8)) rfl rfl (xet_X3_of l ad58 ad59 a1 a2 _ _ hs) iX3_of q1255 q1256 q1257 q97 ⟨(Nat.le_of_ble_eq_true rfl), (Nat.le_of_ble_eq_true rfl)⟩ rfl hl.1 rfl (Nat.le_of_ble_eq_true rfl) dX0_given_100 ⟨(Nat.le_of_ble_eq_true rfl), (Nat.le_of_ble_eq_true rfl)⟩) (fun ad61 C60 H locs hs9 hI => ?_)
          replace hs := hs9
          refine lv_pop hx hb dX0_given_103 rfl ?_
          refine lv_iload_n hx hb dX0_given_104 rfl (lv_at hl 3 rfl) ?_
          refine lv_iconst (v := (-1)) hx hb dX0_given_105 (by decide) ?_
          refine lv_icmp_ne (tgt := 119) hx hb dX0_given_106 (by decide) (fun c67 => ?_) (fun c67 => ?_)
          · replace hs := ifn c67 hs
            refine lv_aload_n hx hb dX0_given_119 rfl (lv_at hl 0 rfl) ?_
            obtain ⟨ad63, ead63, hs⟩ := hs
            refine x_get (v := .ref ad63) X hK hI 0 5 rfl in_X0 rfl q333 rfl (xgr_spec ead63) dX0_given_120 ?_
            obtain ⟨ad64, ead64, hs⟩ := hs
            refine x_get (v := .ref ad64) X hK hI 3 2 rfl in_X3 rfl q219 rfl (xgr_spec ead64) dX0_given_123 ?_
            refine lv_iload_n hx hb dX0_given_126 rfl (lv_at hl 3 rfl) ?_
            obtain ⟨v65, ev65, hs⟩ := hs
            refine x_iald X hK hI ev65 dX0_given_127 ?_
            exact vx_ret (x_reti X hK hI hs (Nat.le_of_ble_eq_true rfl) (Nat.le_of_ble_eq_true rfl) dX0_given_128)
          · replace hs := ifp c67 hs
            refine lv_aload_n hx hb dX0_given_109 rfl (lv_at hl 0 rfl) ?_
            obtain ⟨ad66, ead66, hs⟩ := hs
            refine x_get (v := .ref ad66) X hK hI 0 5 rfl in_X0 rfl q333 rfl (xgr_spec ead66) dX0_given_110 ?_
            obtain ⟨v67, ev67, hs⟩ := hs
            refine x_get (v := .int v67) X hK hI 3 7 rfl in_X3 rfl q225 rfl (xgi_spec ev67) dX0_given_113 ?_
            refine lv_goto (tgt := 128) hx hb dX0_given_116 (by decide) ?_
            exact vx_ret (x_reti X hK hI hs (Nat.le_of_ble_eq_true rfl) (Nat.le_of_ble_eq_true rfl) dX0_given_128)
    obtain ⟨k78_80, hk78_80, hs⟩ := jn_ex hs
    have Ek78_80 : ∀ (v79 : Int32) (C80 : XH) (H : Heap) (locs : List Loc) (ls : Array Slot), k78_80 v79 C80 → xI D dT A s.heap C80 H locs → lv_has ls 5 [(0, .ref a0), (1, .int a1), (2, .int a2), (3, .int a3), (4, .int v53)] → W p l e (xRm 12 768 2 14) s m args below meth c H locs 0 0 (vx_MQ below (xQi D dT K A) (xXC D dT xE0 A) args s 2 14 A) (F0 m 78 ls [.int v79]) := by
      intro v79 C80 H locs ls hs hI hl
      rw [hk78_80] at hs
      refine lv_bipush (v := (-5)) hx hb dX0_given_78 (by decide) ?_
      refine xT_gov hA hI (x_runST (As := [.int v79, .int (-5)]) (rest := []) X hK hA hG hI (xet_X0_need l hl0 v79 (-5) _ _ _ hs) iX0_need q469 q470 q94 ⟨(Nat.le_of_ble_eq_true rfl), (Nat.le_of_ble_eq_true rfl)⟩ rfl hl.1 rfl (Nat.le_of_ble_eq_true rfl) dX0_given_80 ⟨(Nat.le_of_ble_eq_true rfl), (Nat.le_of_ble_eq_true rfl)⟩) (fun En ce ad99 C100 H locs hs9 hI hce hvm hcl => ?_) (fun C81 H locs hs9 hI => ?_)
      · obtain ⟨rfl, hs0⟩ := hs9
        replace hs := hs0
        refine x_catch (k := 0) (a1 := 0) (a2 := 128) (a3 := 129) (a4 := 21) X hG hT rfl (x_cov rfl) rfl (by decide) q363 (by decide) hce hvm hcl ?_
        refine lv_astore (lv' := [(4, .ref ad99), (0, .ref a0), (1, .int a1), (2, .int a2), (3, .int a3)]) hx hb dX0_given_129 hl (by decide) rfl (fun ls hl => ?_)
        refine lv_aload_n hx hb dX0_given_131 rfl (lv_at hl 1 rfl) ?_
        refine lv_aload hx hb dX0_given_132 (lv_at hl 0 rfl) ?_
        obtain ⟨h102, hs⟩ := hs
        obtain ⟨fh102, h102⟩ := xcl_spec h102
        refine x_goi hA hI (x_runV (As := [.ref ad99]) (rest := []) X hK hA hG hI h102 (q := (RX0, TX0, 10)) rfl rfl (xet_X0_refused l a0 ad99 _ _ hs) iX0_refused q538 q540 qs2 q94 ⟨(Nat.le_of_ble_eq_true rfl), (Nat.le_of_ble_eq_true rfl)⟩ rfl hl.1 rfl (Nat.le_of_ble_eq_true rfl) dX0_given_134 ⟨(Nat.le_of_ble_eq_true rfl), (Nat.le_of_ble_eq_true rfl)⟩) (fun r102 C101 H locs hs9 hI => ?_)
        replace hs := hs9
        exact vx_ret (x_reti X hK hI hs (Nat.le_of_ble_eq_true rfl) (Nat.le_of_ble_eq_true rfl) dX0_given_137)
      · replace hs := hs9
        refine lv_iload hx hb dX0_given_83 (lv_at hl 4 rfl) ?_
        refine lv_bipush (v := (-6)) hx hb dX0_given_85 (by decide) ?_
        refine xT_gov hA hI (x_runST (As := [.int v53, .int (-6)]) (rest := []) X hK hA hG hI (xet_X0_need l hl0 v53 (-6) _ _ _ hs) iX0_need q469 q470 q94 ⟨(Nat.le_of_ble_eq_true rfl), (Nat.le_of_ble_eq_true rfl)⟩ rfl hl.1 rfl (Nat.le_of_ble_eq_true rfl) dX0_given_87 ⟨(Nat.le_of_ble_eq_true rfl), (Nat.le_of_ble_eq_true rfl)⟩) (fun En ce ad94 C95 H locs hs9 hI hce hvm hcl => ?_) (fun C82 H locs hs9 hI => ?_)
        · obtain ⟨rfl, hs0⟩ := hs9
          replace hs := hs0
          refine x_catch (k := 0) (a1 := 0) (a2 := 128) (a3 := 129) (a4 := 21) X hG hT rfl (x_cov rfl) rfl (by decide) q363 (by decide) hce hvm hcl ?_
          refine lv_astore (lv' := [(4, .ref ad94), (0, .ref a0), (1, .int a1), (2, .int a2), (3, .int a3)]) hx hb dX0_given_129 hl (by decide) rfl (fun ls hl => ?_)
          refine lv_aload_n hx hb dX0_given_131 rfl (lv_at hl 1 rfl) ?_
          refine lv_aload hx hb dX0_given_132 (lv_at hl 0 rfl) ?_
          obtain ⟨h97, hs⟩ := hs
          obtain ⟨fh97, h97⟩ := xcl_spec h97
          refine x_goi hA hI (x_runV (As := [.ref ad94]) (rest := []) X hK hA hG hI h97 (q := (RX0, TX0, 10)) rfl rfl (xet_X0_refused l a0 ad94 _ _ hs) iX0_refused q538 q540 qs2 q94 ⟨(Nat.le_of_ble_eq_true rfl), (Nat.le_of_ble_eq_true rfl)⟩ rfl hl.1 rfl (Nat.le_of_ble_eq_true rfl) dX0_given_134 ⟨(Nat.le_of_ble_eq_true rfl), (Nat.le_of_ble_eq_true rfl)⟩) (fun r97 C96 H locs hs9 hI => ?_)
          replace hs := hs9
          exact vx_ret (x_reti X hK hI hs (Nat.le_of_ble_eq_true rfl) (Nat.le_of_ble_eq_true rfl) dX0_given_137)
        · replace hs := hs9
          refine lv_aload_n hx hb dX0_given_90 rfl (lv_at hl 0 rfl) ?_
          obtain ⟨ad83, ead83, hs⟩ := hs
          refine x_get (v := .ref ad83) X hK hI 0 5 rfl in_X0 rfl q333 rfl (xgr_spec ead83) dX0_given_91 ?_
          refine lv_aload_n hx hb dX0_given_94 rfl (lv_at hl 0 rfl) ?_
          obtain ⟨ad84, ead84, hs⟩ := hs
          refine x_get (v := .ref ad84) X hK hI 0 7 rfl in_X0 rfl q335 rfl (xgr_spec ead84) dX0_given_95 ?_
          refine lv_iload_n hx hb dX0_given_98 rfl (lv_at hl 1 rfl) ?_
          refine lv_iload_n hx hb dX0_given_99 rfl (lv_at hl 2 rfl) ?_
          obtain ⟨h86, hs⟩ := hs
          obtain ⟨fh86, h86⟩ := xcl_spec h86
          refine x_gor hA hI (x_runV (As := [.ref ad84, .int a1, .int a2]) (rest := []) X hK hA hG hI h86 (q := (RX3, TX3, 8)) rfl rfl (xet_X3_of l ad83 ad84 a1 a2 _ _ hs) iX3_of q1255 q1256 q1257 q97 ⟨(Nat.le_of_ble_eq_true rfl), (Nat.le_of_ble_eq_true rfl)⟩ rfl hl.1 rfl (Nat.le_of_ble_eq_true rfl) dX0_given_100 ⟨(Nat.le_of_ble_eq_true rfl), (Nat.le_of_ble_eq_true rfl)⟩) (fun ad86 C85 H locs hs9 hI => ?_)
          replace hs := hs9
          refine lv_pop hx hb dX0_given_103 rfl ?_
          refine lv_iload_n hx hb dX0_given_104 rfl (lv_at hl 3 rfl) ?_
          refine lv_iconst (v := (-1)) hx hb dX0_given_105 (by decide) ?_
          refine lv_icmp_ne (tgt := 119) hx hb dX0_given_106 (by decide) (fun c92 => ?_) (fun c92 => ?_)
          · replace hs := ifn c92 hs
            refine lv_aload_n hx hb dX0_given_119 rfl (lv_at hl 0 rfl) ?_
            obtain ⟨ad88, ead88, hs⟩ := hs
            refine x_get (v := .ref ad88) X hK hI 0 5 rfl in_X0 rfl q333 rfl (xgr_spec ead88) dX0_given_120 ?_
            obtain ⟨ad89, ead89, hs⟩ := hs
            refine x_get (v := .ref ad89) X hK hI 3 2 rfl in_X3 rfl q219 rfl (xgr_spec ead89) dX0_given_123 ?_
            refine lv_iload_n hx hb dX0_given_126 rfl (lv_at hl 3 rfl) ?_
            obtain ⟨v90, ev90, hs⟩ := hs
            refine x_iald X hK hI ev90 dX0_given_127 ?_
            exact vx_ret (x_reti X hK hI hs (Nat.le_of_ble_eq_true rfl) (Nat.le_of_ble_eq_true rfl) dX0_given_128)
          · replace hs := ifp c92 hs
            refine lv_aload_n hx hb dX0_given_109 rfl (lv_at hl 0 rfl) ?_
            obtain ⟨ad91, ead91, hs⟩ := hs
            refine x_get (v := .ref ad91) X hK hI 0 5 rfl in_X0 rfl q333 rfl (xgr_spec ead91) dX0_given_110 ?_
            obtain ⟨v92, ev92, hs⟩ := hs
            refine x_get (v := .int v92) X hK hI 3 7 rfl in_X3 rfl q225 rfl (xgi_spec ev92) dX0_given_113 ?_
            refine lv_goto (tgt := 128) hx hb dX0_given_116 (by decide) ?_
            exact vx_ret (x_reti X hK hI hs (Nat.le_of_ble_eq_true rfl) (Nat.le_of_ble_eq_true rfl) dX0_given_128)
    refine lv_if_eq (tgt := 73) hx hb dX0_given_55 (by decide) (fun c106 => ?_) (fun c106 => ?_)
    · replace hs := ifp c106 hs
      exact Ek73_55 _ _ _ _ hs hI (lv_sub hl [1, 2, 3, 4, 0] rfl)
    · replace hs := ifn c106 hs
      refine lv_iload_n hx hb dX0_given_58 rfl (lv_at hl 4 rfl) ?_
      refine lv_i2l (v := ((a3 : Int32).toInt64)) hx hb dX0_given_59 rfl ?_
      refine lv_ldc2 hx hb hown (hts _ q1254) dX0_given_60 ?_
      refine lv_iload_n hx hb dX0_given_63 rfl (lv_at hl 3 rfl) ?_
      refine lv_iconst (v := 1) hx hb dX0_given_64 (by decide) ?_
      refine lv_isub hx hb dX0_given_65 ?_
      refine lv_i2l (v := (((a2 - 1) : Int32).toInt64)) hx hb dX0_given_66 rfl ?_
      refine x_goz hA hI (x_runS (As := [.long ((a3 : Int32).toInt64), .long (-1), .long (((a2 - 1) : Int32).toInt64)]) (rest := []) X hK hA hG hI (xet_X0_in l ((a3 : Int32).toInt64) (-1) (((a2 - 1) : Int32).toInt64) _ _ hs) iX0_in q473 q474 q94 ⟨(Nat.le_of_ble_eq_true rfl), (Nat.le_of_ble_eq_true rfl)⟩ rfl hl.1 rfl (Nat.le_of_ble_eq_true rfl) dX0_given_67 ⟨(Nat.le_of_ble_eq_true rfl), (Nat.le_of_ble_eq_true rfl)⟩) (fun r105 C104 H locs br105 hs9 hI => ?_)
      replace hs := hs9
      refine lv_if_eq (tgt := 77) hx hb dX0_given_70 (by decide) (fun c105 => ?_) (fun c105 => ?_)
      · replace hs := ifp c105 hs
        refine lv_iconst (v := 0) hx hb dX0_given_77 (by decide) ?_
        exact Ek78_80 _ _ _ _ _ hs hI (lv_sub hl [1, 2, 3, 4, 0] rfl)
      · replace hs := ifn c105 hs
        exact Ek73_55 _ _ _ _ hs hI (lv_sub hl [1, 2, 3, 4, 0] rfl)
  refine lv_if_eq (tgt := 50) hx hb dX0_given_9 (by decide) (fun c116 => ?_) (fun c116 => ?_)
  · replace hs := ifp c116 hs
    exact Ek50_3 _ _ _ _ hs hI hl
  · replace hs := ifn c116 hs
    refine lv_iload_n hx hb dX0_given_12 rfl (lv_at hl 2 rfl) ?_
    refine lv_i2l (v := ((a2 : Int32).toInt64)) hx hb dX0_given_13 rfl ?_
    refine lv_lconst (v := 1) hx hb dX0_given_14 (by decide) ?_
    refine lv_ldc2 hx hb hown (hts _ q1253) dX0_given_15 ?_
    refine x_goz hA hI (x_runS (As := [.long ((a2 : Int32).toInt64), .long 1, .long 5]) (rest := []) X hK hA hG hI (xet_X0_in l ((a2 : Int32).toInt64) 1 5 _ _ hs) iX0_in q473 q474 q94 ⟨(Nat.le_of_ble_eq_true rfl), (Nat.le_of_ble_eq_true rfl)⟩ rfl hl.1 rfl (Nat.le_of_ble_eq_true rfl) dX0_given_18 ⟨(Nat.le_of_ble_eq_true rfl), (Nat.le_of_ble_eq_true rfl)⟩) (fun r109 C108 H locs br109 hs9 hI => ?_)
    replace hs := hs9
    refine lv_if_eq (tgt := 50) hx hb dX0_given_21 (by decide) (fun c115 => ?_) (fun c115 => ?_)
    · replace hs := ifp c115 hs
      exact Ek50_3 _ _ _ _ hs hI hl
    · replace hs := ifn c115 hs
      refine lv_iload_n hx hb dX0_given_24 rfl (lv_at hl 2 rfl) ?_
      refine lv_aload_n hx hb dX0_given_25 rfl (lv_at hl 0 rfl) ?_
      obtain ⟨ad110, ead110, hs⟩ := hs
      refine x_get (v := .ref ad110) X hK hI 0 7 rfl in_X0 rfl q335 rfl (xgr_spec ead110) dX0_given_26 ?_
      obtain ⟨v111, ev111, hs⟩ := hs
      refine x_get (v := .int v111) X hK hI 4 0 rfl in_X4 rfl q252 rfl (xgi_spec ev111) dX0_given_29 ?_
      refine lv_icmp_gt (tgt := 50) hx hb dX0_given_32 (by decide) (fun c114 => ?_) (fun c114 => ?_)
      · replace hs := ifp c114 hs
        exact Ek50_3 _ _ _ _ hs hI hl
      · replace hs := ifn c114 hs
        refine lv_iload_n hx hb dX0_given_35 rfl (lv_at hl 2 rfl) ?_
        refine lv_aload_n hx hb dX0_given_36 rfl (lv_at hl 0 rfl) ?_
        obtain ⟨ad112, ead112, hs⟩ := hs
        refine x_get (v := .ref ad112) X hK hI 0 7 rfl in_X0 rfl q335 rfl (xgr_spec ead112) dX0_given_37 ?_
        obtain ⟨v113, ev113, hs⟩ := hs
        refine x_get (v := .int v113) X hK hI 4 1 rfl in_X4 rfl q257 rfl (xgi_spec ev113) dX0_given_40 ?_
        refine lv_icmp_gt (tgt := 50) hx hb dX0_given_43 (by decide) (fun c113 => ?_) (fun c113 => ?_)
        · replace hs := ifp c113 hs
          exact Ek50_3 _ _ _ _ hs hI hl
        · replace hs := ifn c113 hs
          refine lv_iconst (v := 1) hx hb dX0_given_46 (by decide) ?_
          refine lv_goto (tgt := 51) hx hb dX0_given_47 (by decide) ?_
          exact Ek51_54 _ _ _ _ _ hs hI hl
def x_X2_ofTwo (a0 : Nat) (a1 : Nat) (a2 : Int32) (a3 : Int32) (a4 : Int32) (C : XH) (K : Nat → XH → Prop) : Prop := obd (xgr C (xis 4) a1 7) (fun ad1 => obd (xai C 0 ad1 a2) (fun v2 => obd (xgr C (xis 4) a1 7) (fun ad3 => obd (xai C 0 ad3 a3) (fun v4 => obd (xgr C (xis 4) a1 7) (fun ad5 => obd (xai C 0 ad5 a2) (fun v6 => obd (xgr C (xis 4) a1 7) (fun ad7 => obd (xai C 0 ad7 a3) (fun v8 => obd (xgr C (xis 4) a1 6) (fun ad9 => obd (xar C 7 ad9 a2) (fun ad10 => (xcl C a1 = some 4 ∧ x_X4_slackIn a1 (imin v2 v4) a4 C (fun r12 C11 => (xcl C11 a1 = some 4 ∧ x_X4_holesIn a1 a4 C11 (fun r15 C14 => obd (xgr C14 (xis 4) a1 9) (fun ad17 => obd (xai C14 0 ad17 a2) (fun v18 => (xcl C14 a0 = some 2 ∧ x_X2_begins a0 a1 ad10 (imin v2 v4) (r12 + (iabs (v6 - v8))) r15 v18 C14 (fun ad20 C19 => K ad20 C19))))))))))))))))))
theorem iX2_ofTwo : xInf yX2_ofTwo cX2_ofTwo 7 (some (.object RX2)) 4 := ⟨q1279, by decide +kernel⟩
set_option maxHeartbeats 4000000 in
theorem xet_X2_ofTwo (l : Launch) (a0 : Nat) (a1 : Nat) (a2 : Int32) (a3 : Int32) (a4 : Int32) (C : XH) (K : Nat → XH → Prop) (hs : x_X2_ofTwo a0 a1 a2 a3 a4 C K) : xMetr l yX2_ofTwo (ws_ yX2_ofTwo cX2_ofTwo 7 (some (.object RX2))) 6 136 0 0 C [.ref a0, .ref a1, .int a2, .int a3, .int a4] K := by
  intro D dT adK adV sz
  refine xEnter (own := RX2) (Qc := xQr D dT K) (by decide) rfl (by rfl) ?_
  intro p e s m args below meth c A ls X hnm hK hA hG hI hl
  have hx := X.1
  have hb := X.2.1
  have hts := X.2.2.2.2.1
  have hown := X.2.2.2.2.2.1
  have hl : lv_has ls 7 [(0, .ref a0), (1, .ref a1), (2, .int a2), (3, .int a3), (4, .int a4)] := hl
  unfold x_X2_ofTwo at hs
  refine lv_aload_n hx hb dX2_ofTwo_0 rfl (lv_at hl 1 rfl) ?_
  obtain ⟨ad1, ead1, hs⟩ := hs
  refine x_get (v := .ref ad1) X hK hI 4 7 rfl in_X4 rfl q274 rfl (xgr_spec ead1) dX2_ofTwo_1 ?_
  refine lv_iload_n hx hb dX2_ofTwo_4 rfl (lv_at hl 2 rfl) ?_
  obtain ⟨v2, ev2, hs⟩ := hs
  refine x_iald X hK hI ev2 dX2_ofTwo_5 ?_
  refine lv_aload_n hx hb dX2_ofTwo_6 rfl (lv_at hl 1 rfl) ?_
  obtain ⟨ad3, ead3, hs⟩ := hs
  refine x_get (v := .ref ad3) X hK hI 4 7 rfl in_X4 rfl q274 rfl (xgr_spec ead3) dX2_ofTwo_7 ?_
  refine lv_iload_n hx hb dX2_ofTwo_10 rfl (lv_at hl 3 rfl) ?_
  obtain ⟨v4, ev4, hs⟩ := hs
  refine x_iald X hK hI ev4 dX2_ofTwo_11 ?_
  refine va_mmin (rest := []) hx hb (X.2.2.2.1.trans hl.1.symm) hown (hts _ q1174) (hts _ q1175) (hts _ q116) (hts _ q1176) (Nat.le_of_ble_eq_true rfl) (Nat.le_of_ble_eq_true rfl) (Nat.le_of_ble_eq_true rfl) (Nat.le_of_ble_eq_true rfl) dX2_ofTwo_12 ?_
  refine lv_istore (lv' := [(5, .int (imin v2 v4)), (0, .ref a0), (1, .ref a1), (2, .int a2), (3, .int a3), (4, .int a4)]) hx hb dX2_ofTwo_15 hl (by decide) rfl (fun ls hl => ?_)
  refine lv_aload_n hx hb dX2_ofTwo_17 rfl (lv_at hl 2 rfl) ?_
  obtain ⟨ad5, ead5, hs⟩ := hs
  refine x_get (v := .ref ad5) X hK hI 4 7 rfl in_X4 rfl q274 rfl (xgr_spec ead5) dX2_ofTwo_18 ?_
  refine lv_iload_n hx hb dX2_ofTwo_21 rfl (lv_at hl 3 rfl) ?_
  obtain ⟨v6, ev6, hs⟩ := hs
  refine x_iald X hK hI ev6 dX2_ofTwo_22 ?_
  refine lv_aload_n hx hb dX2_ofTwo_23 rfl (lv_at hl 2 rfl) ?_
  obtain ⟨ad7, ead7, hs⟩ := hs
  refine x_get (v := .ref ad7) X hK hI 4 7 rfl in_X4 rfl q274 rfl (xgr_spec ead7) dX2_ofTwo_24 ?_
  refine lv_iload_n hx hb dX2_ofTwo_27 rfl (lv_at hl 4 rfl) ?_
  obtain ⟨v8, ev8, hs⟩ := hs
  refine x_iald X hK hI ev8 dX2_ofTwo_28 ?_
  refine lv_isub hx hb dX2_ofTwo_29 ?_
  refine va_mabs (rest := []) hx hb (X.2.2.2.1.trans hl.1.symm) hown (hts _ q1280) (hts _ q702) (hts _ q116) (hts _ q703) (Nat.le_of_ble_eq_true rfl) (Nat.le_of_ble_eq_true rfl) (Nat.le_of_ble_eq_true rfl) (Nat.le_of_ble_eq_true rfl) dX2_ofTwo_30 ?_
  refine lv_istore (lv' := [(6, .int (iabs (v6 - v8))), (5, .int (imin v2 v4)), (0, .ref a0), (1, .ref a1), (2, .int a2), (3, .int a3), (4, .int a4)]) hx hb dX2_ofTwo_33 hl (by decide) rfl (fun ls hl => ?_)
  refine lv_aload_n hx hb dX2_ofTwo_35 rfl (lv_at hl 2 rfl) ?_
  refine lv_aload_n hx hb dX2_ofTwo_36 rfl (lv_at hl 3 rfl) ?_
  refine lv_aload_n hx hb dX2_ofTwo_37 rfl (lv_at hl 3 rfl) ?_
  obtain ⟨ad9, ead9, hs⟩ := hs
  refine x_get (v := .ref ad9) X hK hI 4 6 rfl in_X4 rfl q270 rfl (xgr_spec ead9) dX2_ofTwo_38 ?_
  refine lv_iload_n hx hb dX2_ofTwo_41 rfl (lv_at hl 4 rfl) ?_
  obtain ⟨ad10, ead10, hs⟩ := hs
  refine x_aald X hK hI 7 rfl rfl ead10 dX2_ofTwo_42 ?_
  refine lv_iload hx hb dX2_ofTwo_43 (lv_at hl 1 rfl) ?_
  refine lv_aload_n hx hb dX2_ofTwo_45 rfl (lv_at hl 3 rfl) ?_
  refine lv_iload hx hb dX2_ofTwo_46 (lv_at hl 1 rfl) ?_
  refine lv_iload hx hb dX2_ofTwo_48 (lv_at hl 6 rfl) ?_
  obtain ⟨h12, hs⟩ := hs
  obtain ⟨fh12, h12⟩ := xcl_spec h12
  refine x_goi hA hI (x_runV (As := [.int (imin v2 v4), .int a4]) (rest := [.int (imin v2 v4), .ref ad10, .ref a1, .ref a0]) X hK hA hG hI h12 (q := (RX4, TX4, 13)) rfl rfl (xet_X4_slackIn l a1 (imin v2 v4) a4 _ _ hs) iX4_slackIn q1144 q694 q695 q98 ⟨(Nat.le_of_ble_eq_true rfl), (Nat.le_of_ble_eq_true rfl)⟩ rfl hl.1 rfl (Nat.le_of_ble_eq_true rfl) dX2_ofTwo_50 ⟨(Nat.le_of_ble_eq_true rfl), (Nat.le_of_ble_eq_true rfl)⟩) (fun r12 C11 H locs hs9 hI => ?_)
  replace hs := hs9
  refine lv_iload hx hb dX2_ofTwo_53 (lv_at hl 0 rfl) ?_
  refine lv_iadd hx hb dX2_ofTwo_55 ?_
  refine lv_aload_n hx hb dX2_ofTwo_56 rfl (lv_at hl 3 rfl) ?_
  refine lv_iload hx hb dX2_ofTwo_57 (lv_at hl 6 rfl) ?_
  obtain ⟨h15, hs⟩ := hs
  obtain ⟨fh15, h15⟩ := xcl_spec h15
  refine x_goi hA hI (x_runV (As := [.int a4]) (rest := [.int (r12 + (iabs (v6 - v8))), .int (imin v2 v4), .ref ad10, .ref a1, .ref a0]) X hK hA hG hI h15 (q := (RX4, TX4, 13)) rfl rfl (xet_X4_holesIn l a1 a4 _ _ hs) iX4_holesIn q1145 q750 q751 q98 ⟨(Nat.le_of_ble_eq_true rfl), (Nat.le_of_ble_eq_true rfl)⟩ rfl hl.1 rfl (Nat.le_of_ble_eq_true rfl) dX2_ofTwo_59 ⟨(Nat.le_of_ble_eq_true rfl), (Nat.le_of_ble_eq_true rfl)⟩) (fun r15 C14 H locs hs9 hI => ?_)
  replace hs := hs9
  refine lv_aload_n hx hb dX2_ofTwo_62 rfl (lv_at hl 3 rfl) ?_
  obtain ⟨ad17, ead17, hs⟩ := hs
  refine x_get (v := .ref ad17) X hK hI 4 9 rfl in_X4 rfl q282 rfl (xgr_spec ead17) dX2_ofTwo_63 ?_
  refine lv_iload_n hx hb dX2_ofTwo_66 rfl (lv_at hl 4 rfl) ?_
  obtain ⟨v18, ev18, hs⟩ := hs
  refine x_iald X hK hI ev18 dX2_ofTwo_67 ?_
  obtain ⟨h20, hs⟩ := hs
  obtain ⟨fh20, h20⟩ := xcl_spec h20
  refine x_gor hA hI (x_runV (As := [.ref a1, .ref ad10, .int (imin v2 v4), .int (r12 + (iabs (v6 - v8))), .int r15, .int v18]) (rest := []) X hK hA hG hI h20 (q := (RX2, TX2, 12)) rfl rfl (xet_X2_begins l a0 a1 ad10 (imin v2 v4) (r12 + (iabs (v6 - v8))) r15 v18 _ _ hs) iX2_begins q1146 q1148 qs17 q96 ⟨(Nat.le_of_ble_eq_true rfl), (Nat.le_of_ble_eq_true rfl)⟩ rfl hl.1 rfl (Nat.le_of_ble_eq_true rfl) dX2_ofTwo_68 ⟨(Nat.le_of_ble_eq_true rfl), (Nat.le_of_ble_eq_true rfl)⟩) (fun ad20 C19 H locs hs9 hI => ?_)
  replace hs := hs9
  exact x_retr X hK hI hs (Nat.le_of_ble_eq_true rfl) (Nat.le_of_ble_eq_true rfl) dX2_ofTwo_71
def x_X0_two (a0 : Nat) (a1 : Int32) (a2 : Int32) (a3 : Int32) (C : XH) (K : Int32 → XH → Prop) : Prop := obd (xgr C (xis 0) a0 7) (fun ad1 => (xcl C ad1 = some 4 ∧ x_X4_isChild ad1 a1 C (fun r3 C2 => jn (fun (C5 : XH) => x_X0_need 0 (-1) C5 (fun C6 => jn (fun (v7 : Int32) => x_X0_need v7 (-6) C6 (fun C8 => obd (xgr C8 (xis 0) a0 3) (fun ad9 => obd (xgr C8 (xis 0) a0 7) (fun ad10 => (xcl C8 ad9 = some 2 ∧ x_X2_ofTwo ad9 ad10 a1 a2 a3 C8 (fun ad12 C11 => (xcl C11 ad12 = some 2 ∧ x_X2_comesIn ad12 C11 (fun r15 C14 => K r15 C14))))))) (fun ad17 C18 => (xcl C18 a0 = some 0 ∧ x_X0_refused a0 ad17 C18 (fun r20 C19 => K r20 C19)))) (fun k52_7 => (if a1 = a2 then k52_7 0 else k52_7 1))) (fun ad23 C24 => (xcl C24 a0 = some 0 ∧ x_X0_refused a0 ad23 C24 (fun r26 C25 => K r26 C25)))) (fun k37_5 => jn (fun (v28 : Int32) (C29 : XH) => x_X0_need v28 (-1) C29 (fun C30 => jn (fun (v31 : Int32) => x_X0_need v31 (-6) C30 (fun C32 => obd (xgr C32 (xis 0) a0 3) (fun ad33 => obd (xgr C32 (xis 0) a0 7) (fun ad34 => (xcl C32 ad33 = some 2 ∧ x_X2_ofTwo ad33 ad34 a1 a2 a3 C32 (fun ad36 C35 => (xcl C35 ad36 = some 2 ∧ x_X2_comesIn ad36 C35 (fun r39 C38 => K r39 C38))))))) (fun ad41 C42 => (xcl C42 a0 = some 0 ∧ x_X0_refused a0 ad41 C42 (fun r44 C43 => K r44 C43)))) (fun k52_31 => (if a1 = a2 then k52_31 0 else k52_31 1))) (fun ad47 C48 => (xcl C48 a0 = some 0 ∧ x_X0_refused a0 ad47 C48 (fun r50 C49 => K r50 C49)))) (fun k38_29 => (if r3 = 0 then k37_5 C2 else obd (xgr C2 (xis 0) a0 7) (fun ad52 => (xcl C2 ad52 = some 4 ∧ x_X4_isChild ad52 a2 C2 (fun r54 C53 => (if r54 = 0 then k37_5 C53 else obd (xgr C53 (xis 0) a0 7) (fun ad56 => (xcl C53 ad56 = some 4 ∧ x_X4_isSack ad56 a3 C53 (fun r58 C57 => (if r58 = 0 then k37_5 C57 else k38_29 1 C57))))))))))))))
theorem iX0_two : xInfW yX0_two cX0_two 5 (some .int) [(0, 74, 75, 21)] 3 := ⟨q1275, by decide +kernel⟩
set_option maxHeartbeats 4000000 in
theorem xet_X0_two (l : Launch) (hl0 : l.stackTraces = false) (a0 : Nat) (a1 : Int32) (a2 : Int32) (a3 : Int32) (C : XH) (K : Int32 → XH → Prop) (hs : x_X0_two a0 a1 a2 a3 C K) : xMetX l yX0_two (wsW_ yX0_two cX0_two 5 (some .int) [(0, 74, 75, 21)]) 7 162 2 14 C [.ref a0, .int a1, .int a2, .int a3] (fun D dT A => xQi D dT K A) xE0 := by
  intro D dT adK adV sz
  refine xEnterW (own := RX0) (Qc := xQi D dT K) (XC := xXC D dT xE0) (by decide) rfl (by rfl) ?_
  intro p e s m args below meth c A ls X hnm hK hA hG hT hI hl
  have hx := X.1
  have hb := X.2.1
  have hts := X.2.2.2.2.1
  have hown := X.2.2.2.2.2.1
  have hl : lv_has ls 5 [(0, .ref a0), (1, .int a1), (2, .int a2), (3, .int a3)] := hl
  unfold x_X0_two at hs
  refine lv_aload_n hx hb dX0_two_0 rfl (lv_at hl 0 rfl) ?_
  obtain ⟨ad1, ead1, hs⟩ := hs
  refine x_get (v := .ref ad1) X hK hI 0 7 rfl in_X0 rfl q335 rfl (xgr_spec ead1) dX0_two_1 ?_
  refine lv_iload_n hx hb dX0_two_4 rfl (lv_at hl 1 rfl) ?_
  obtain ⟨h3, hs⟩ := hs
  obtain ⟨fh3, h3⟩ := xcl_spec h3
  refine x_goz hA hI (x_runV (As := [.int a1]) (rest := []) X hK hA hG hI h3 (q := (RX4, TX4, 13)) rfl rfl (xet_X4_isChild l ad1 a1 _ _ hs) iX4_isChild q653 q654 q655 q98 ⟨(Nat.le_of_ble_eq_true rfl), (Nat.le_of_ble_eq_true rfl)⟩ rfl hl.1 rfl (Nat.le_of_ble_eq_true rfl) dX0_two_5 ⟨(Nat.le_of_ble_eq_true rfl), (Nat.le_of_ble_eq_true rfl)⟩) (fun r3 C2 H locs br3 hs9 hI => ?_)
  replace hs := hs9
  obtain ⟨k37_5, hk37_5, hs⟩ := jn_ex hs
  have Ek37_5 : ∀ (C5 : XH) (H : Heap) (locs : List Loc) (ls : Array Slot), k37_5 C5 → xI D dT A s.heap C5 H locs → lv_has ls 5 [(0, .ref a0), (1, .int a1), (2, .int a2), (3, .int a3)] → W p l e (xRm 7 162 2 14) s m args below meth c H locs 0 0 (vx_MQ below (xQi D dT K A) (xXC D dT xE0 A) args s 2 14 A) (F0 m 37 ls []) := by
    intro C5 H locs ls hs hI hl
    rw [hk37_5] at hs
    refine lv_iconst (v := 0) hx hb dX0_two_37 (by decide) ?_
    refine lv_iconst (v := (-1)) hx hb dX0_two_38 (by decide) ?_
    refine xT_gov hA hI (x_runST (As := [.int 0, .int (-1)]) (rest := []) X hK hA hG hI (xet_X0_need l hl0 0 (-1) _ _ _ hs) iX0_need q469 q470 q94 ⟨(Nat.le_of_ble_eq_true rfl), (Nat.le_of_ble_eq_true rfl)⟩ rfl hl.1 rfl (Nat.le_of_ble_eq_true rfl) dX0_two_39 ⟨(Nat.le_of_ble_eq_true rfl), (Nat.le_of_ble_eq_true rfl)⟩) (fun En ce ad23 C24 H locs hs9 hI hce hvm hcl => ?_) (fun C6 H locs hs9 hI => ?_)
    · obtain ⟨rfl, hs0⟩ := hs9
      replace hs := hs0
      refine x_catch (k := 0) (a1 := 0) (a2 := 74) (a3 := 75) (a4 := 21) X hG hT rfl (x_cov rfl) rfl (by decide) q363 (by decide) hce hvm hcl ?_
      refine lv_astore (lv' := [(4, .ref ad23), (0, .ref a0), (1, .int a1), (2, .int a2), (3, .int a3)]) hx hb dX0_two_75 hl (by decide) rfl (fun ls hl => ?_)
      refine lv_aload_n hx hb dX0_two_77 rfl (lv_at hl 1 rfl) ?_
      refine lv_aload hx hb dX0_two_78 (lv_at hl 0 rfl) ?_
      obtain ⟨h26, hs⟩ := hs
      obtain ⟨fh26, h26⟩ := xcl_spec h26
      refine x_goi hA hI (x_runV (As := [.ref ad23]) (rest := []) X hK hA hG hI h26 (q := (RX0, TX0, 10)) rfl rfl (xet_X0_refused l a0 ad23 _ _ hs) iX0_refused q538 q540 qs2 q94 ⟨(Nat.le_of_ble_eq_true rfl), (Nat.le_of_ble_eq_true rfl)⟩ rfl hl.1 rfl (Nat.le_of_ble_eq_true rfl) dX0_two_80 ⟨(Nat.le_of_ble_eq_true rfl), (Nat.le_of_ble_eq_true rfl)⟩) (fun r26 C25 H locs hs9 hI => ?_)
      replace hs := hs9
      exact vx_ret (x_reti X hK hI hs (Nat.le_of_ble_eq_true rfl) (Nat.le_of_ble_eq_true rfl) dX0_two_83)
    · replace hs := hs9
      refine lv_iload_n hx hb dX0_two_42 rfl (lv_at hl 1 rfl) ?_
      refine lv_iload_n hx hb dX0_two_43 rfl (lv_at hl 2 rfl) ?_
      obtain ⟨k52_7, hk52_7, hs⟩ := jn_ex hs
      have Ek52_7 : ∀ (v7 : Int32) (H : Heap) (locs : List Loc) (ls : Array Slot), k52_7 v7 → xI D dT A s.heap C6 H locs → lv_has ls 5 [(0, .ref a0), (1, .int a1), (2, .int a2), (3, .int a3)] → W p l e (xRm 7 162 2 14) s m args below meth c H locs 1 7 (vx_MQ below (xQi D dT K A) (xXC D dT xE0 A) args s 2 14 A) (F0 m 52 ls [.int v7]) := by
        intro v7 H locs ls hs hI hl
        rw [hk52_7] at hs
        refine lv_bipush (v := (-6)) hx hb dX0_two_52 (by decide) ?_
        refine xT_gov hA hI (x_runST (As := [.int v7, .int (-6)]) (rest := []) X hK hA hG hI (xet_X0_need l hl0 v7 (-6) _ _ _ hs) iX0_need q469 q470 q94 ⟨(Nat.le_of_ble_eq_true rfl), (Nat.le_of_ble_eq_true rfl)⟩ rfl hl.1 rfl (Nat.le_of_ble_eq_true rfl) dX0_two_54 ⟨(Nat.le_of_ble_eq_true rfl), (Nat.le_of_ble_eq_true rfl)⟩) (fun En ce ad17 C18 H locs hs9 hI hce hvm hcl => ?_) (fun C8 H locs hs9 hI => ?_)
        · obtain ⟨rfl, hs0⟩ := hs9
          replace hs := hs0
          refine x_catch (k := 0) (a1 := 0) (a2 := 74) (a3 := 75) (a4 := 21) X hG hT rfl (x_cov rfl) rfl (by decide) q363 (by decide) hce hvm hcl ?_
          refine lv_astore (lv' := [(4, .ref ad17), (0, .ref a0), (1, .int a1), (2, .int a2), (3, .int a3)]) hx hb dX0_two_75 hl (by decide) rfl (fun ls hl => ?_)
          refine lv_aload_n hx hb dX0_two_77 rfl (lv_at hl 1 rfl) ?_
          refine lv_aload hx hb dX0_two_78 (lv_at hl 0 rfl) ?_
          obtain ⟨h20, hs⟩ := hs
          obtain ⟨fh20, h20⟩ := xcl_spec h20
          refine x_goi hA hI (x_runV (As := [.ref ad17]) (rest := []) X hK hA hG hI h20 (q := (RX0, TX0, 10)) rfl rfl (xet_X0_refused l a0 ad17 _ _ hs) iX0_refused q538 q540 qs2 q94 ⟨(Nat.le_of_ble_eq_true rfl), (Nat.le_of_ble_eq_true rfl)⟩ rfl hl.1 rfl (Nat.le_of_ble_eq_true rfl) dX0_two_80 ⟨(Nat.le_of_ble_eq_true rfl), (Nat.le_of_ble_eq_true rfl)⟩) (fun r20 C19 H locs hs9 hI => ?_)
          replace hs := hs9
          exact vx_ret (x_reti X hK hI hs (Nat.le_of_ble_eq_true rfl) (Nat.le_of_ble_eq_true rfl) dX0_two_83)
        · replace hs := hs9
          refine lv_aload_n hx hb dX0_two_57 rfl (lv_at hl 0 rfl) ?_
          obtain ⟨ad9, ead9, hs⟩ := hs
          refine x_get (v := .ref ad9) X hK hI 0 3 rfl in_X0 rfl q331 rfl (xgr_spec ead9) dX0_two_58 ?_
          refine lv_aload_n hx hb dX0_two_61 rfl (lv_at hl 0 rfl) ?_
          obtain ⟨ad10, ead10, hs⟩ := hs
          refine x_get (v := .ref ad10) X hK hI 0 7 rfl in_X0 rfl q335 rfl (xgr_spec ead10) dX0_two_62 ?_
          refine lv_iload_n hx hb dX0_two_65 rfl (lv_at hl 1 rfl) ?_
          refine lv_iload_n hx hb dX0_two_66 rfl (lv_at hl 2 rfl) ?_
          refine lv_iload_n hx hb dX0_two_67 rfl (lv_at hl 3 rfl) ?_
          obtain ⟨h12, hs⟩ := hs
          obtain ⟨fh12, h12⟩ := xcl_spec h12
          refine x_gor hA hI (x_runV (As := [.ref ad10, .int a1, .int a2, .int a3]) (rest := []) X hK hA hG hI h12 (q := (RX2, TX2, 12)) rfl rfl (xet_X2_ofTwo l ad9 ad10 a1 a2 a3 _ _ hs) iX2_ofTwo q1276 q1277 q1278 q96 ⟨(Nat.le_of_ble_eq_true rfl), (Nat.le_of_ble_eq_true rfl)⟩ rfl hl.1 rfl (Nat.le_of_ble_eq_true rfl) dX0_two_68 ⟨(Nat.le_of_ble_eq_true rfl), (Nat.le_of_ble_eq_true rfl)⟩) (fun ad12 C11 H locs hs9 hI => ?_)
          replace hs := hs9
          obtain ⟨h15, hs⟩ := hs
          obtain ⟨fh15, h15⟩ := xcl_spec h15
          refine x_goi hA hI (x_runV (As := []) (rest := []) X hK hA hG hI h15 (q := (RX2, TX2, 12)) rfl rfl (xet_X2_comesIn l ad12 _ _ hs) iX2_comesIn q1197 q1198 q1199 q96 ⟨(Nat.le_of_ble_eq_true rfl), (Nat.le_of_ble_eq_true rfl)⟩ rfl hl.1 rfl (Nat.le_of_ble_eq_true rfl) dX0_two_71 ⟨(Nat.le_of_ble_eq_true rfl), (Nat.le_of_ble_eq_true rfl)⟩) (fun r15 C14 H locs hs9 hI => ?_)
          replace hs := hs9
          exact vx_ret (x_reti X hK hI hs (Nat.le_of_ble_eq_true rfl) (Nat.le_of_ble_eq_true rfl) dX0_two_74)
      refine lv_icmp_eq (tgt := 51) hx hb dX0_two_44 (by decide) (fun c21 => ?_) (fun c21 => ?_)
      · replace hs := ifp c21 hs
        refine lv_iconst (v := 0) hx hb dX0_two_51 (by decide) ?_
        exact Ek52_7 _ _ _ _ hs hI hl
      · replace hs := ifn c21 hs
        refine lv_iconst (v := 1) hx hb dX0_two_47 (by decide) ?_
        refine lv_goto (tgt := 52) hx hb dX0_two_48 (by decide) ?_
        exact Ek52_7 _ _ _ _ hs hI hl
  obtain ⟨k38_29, hk38_29, hs⟩ := jn_ex hs
  have Ek38_29 : ∀ (v28 : Int32) (C29 : XH) (H : Heap) (locs : List Loc) (ls : Array Slot), k38_29 v28 C29 → xI D dT A s.heap C29 H locs → lv_has ls 5 [(0, .ref a0), (1, .int a1), (2, .int a2), (3, .int a3)] → W p l e (xRm 7 162 2 14) s m args below meth c H locs 0 0 (vx_MQ below (xQi D dT K A) (xXC D dT xE0 A) args s 2 14 A) (F0 m 38 ls [.int v28]) := by
    intro v28 C29 H locs ls hs hI hl
    rw [hk38_29] at hs
    refine lv_iconst (v := (-1)) hx hb dX0_two_38 (by decide) ?_
    refine xT_gov hA hI (x_runST (As := [.int v28, .int (-1)]) (rest := []) X hK hA hG hI (xet_X0_need l hl0 v28 (-1) _ _ _ hs) iX0_need q469 q470 q94 ⟨(Nat.le_of_ble_eq_true rfl), (Nat.le_of_ble_eq_true rfl)⟩ rfl hl.1 rfl (Nat.le_of_ble_eq_true rfl) dX0_two_39 ⟨(Nat.le_of_ble_eq_true rfl), (Nat.le_of_ble_eq_true rfl)⟩) (fun En ce ad47 C48 H locs hs9 hI hce hvm hcl => ?_) (fun C30 H locs hs9 hI => ?_)
    · obtain ⟨rfl, hs0⟩ := hs9
      replace hs := hs0
      refine x_catch (k := 0) (a1 := 0) (a2 := 74) (a3 := 75) (a4 := 21) X hG hT rfl (x_cov rfl) rfl (by decide) q363 (by decide) hce hvm hcl ?_
      refine lv_astore (lv' := [(4, .ref ad47), (0, .ref a0), (1, .int a1), (2, .int a2), (3, .int a3)]) hx hb dX0_two_75 hl (by decide) rfl (fun ls hl => ?_)
      refine lv_aload_n hx hb dX0_two_77 rfl (lv_at hl 1 rfl) ?_
      refine lv_aload hx hb dX0_two_78 (lv_at hl 0 rfl) ?_
      obtain ⟨h50, hs⟩ := hs
      obtain ⟨fh50, h50⟩ := xcl_spec h50
      refine x_goi hA hI (x_runV (As := [.ref ad47]) (rest := []) X hK hA hG hI h50 (q := (RX0, TX0, 10)) rfl rfl (xet_X0_refused l a0 ad47 _ _ hs) iX0_refused q538 q540 qs2 q94 ⟨(Nat.le_of_ble_eq_true rfl), (Nat.le_of_ble_eq_true rfl)⟩ rfl hl.1 rfl (Nat.le_of_ble_eq_true rfl) dX0_two_80 ⟨(Nat.le_of_ble_eq_true rfl), (Nat.le_of_ble_eq_true rfl)⟩) (fun r50 C49 H locs hs9 hI => ?_)
      replace hs := hs9
      exact vx_ret (x_reti X hK hI hs (Nat.le_of_ble_eq_true rfl) (Nat.le_of_ble_eq_true rfl) dX0_two_83)
    · replace hs := hs9
      refine lv_iload_n hx hb dX0_two_42 rfl (lv_at hl 1 rfl) ?_
      refine lv_iload_n hx hb dX0_two_43 rfl (lv_at hl 2 rfl) ?_
      obtain ⟨k52_31, hk52_31, hs⟩ := jn_ex hs
      have Ek52_31 : ∀ (v31 : Int32) (H : Heap) (locs : List Loc) (ls : Array Slot), k52_31 v31 → xI D dT A s.heap C30 H locs → lv_has ls 5 [(0, .ref a0), (1, .int a1), (2, .int a2), (3, .int a3)] → W p l e (xRm 7 162 2 14) s m args below meth c H locs 1 7 (vx_MQ below (xQi D dT K A) (xXC D dT xE0 A) args s 2 14 A) (F0 m 52 ls [.int v31]) := by
        intro v31 H locs ls hs hI hl
        rw [hk52_31] at hs
        refine lv_bipush (v := (-6)) hx hb dX0_two_52 (by decide) ?_
        refine xT_gov hA hI (x_runST (As := [.int v31, .int (-6)]) (rest := []) X hK hA hG hI (xet_X0_need l hl0 v31 (-6) _ _ _ hs) iX0_need q469 q470 q94 ⟨(Nat.le_of_ble_eq_true rfl), (Nat.le_of_ble_eq_true rfl)⟩ rfl hl.1 rfl (Nat.le_of_ble_eq_true rfl) dX0_two_54 ⟨(Nat.le_of_ble_eq_true rfl), (Nat.le_of_ble_eq_true rfl)⟩) (fun En ce ad41 C42 H locs hs9 hI hce hvm hcl => ?_) (fun C32 H locs hs9 hI => ?_)
        · obtain ⟨rfl, hs0⟩ := hs9
          replace hs := hs0
          refine x_catch (k := 0) (a1 := 0) (a2 := 74) (a3 := 75) (a4 := 21) X hG hT rfl (x_cov rfl) rfl (by decide) q363 (by decide) hce hvm hcl ?_
          refine lv_astore (lv' := [(4, .ref ad41), (0, .ref a0), (1, .int a1), (2, .int a2), (3, .int a3)]) hx hb dX0_two_75 hl (by decide) rfl (fun ls hl => ?_)
          refine lv_aload_n hx hb dX0_two_77 rfl (lv_at hl 1 rfl) ?_
          refine lv_aload hx hb dX0_two_78 (lv_at hl 0 rfl) ?_
          obtain ⟨h44, hs⟩ := hs
          obtain ⟨fh44, h44⟩ := xcl_spec h44
          refine x_goi hA hI (x_runV (As := [.ref ad41]) (rest := []) X hK hA hG hI h44 (q := (RX0, TX0, 10)) rfl rfl (xet_X0_refused l a0 ad41 _ _ hs) iX0_refused q538 q540 qs2 q94 ⟨(Nat.le_of_ble_eq_true rfl), (Nat.le_of_ble_eq_true rfl)⟩ rfl hl.1 rfl (Nat.le_of_ble_eq_true rfl) dX0_two_80 ⟨(Nat.le_of_ble_eq_true rfl), (Nat.le_of_ble_eq_true rfl)⟩) (fun r44 C43 H locs hs9 hI => ?_)
          replace hs := hs9
          exact vx_ret (x_reti X hK hI hs (Nat.le_of_ble_eq_true rfl) (Nat.le_of_ble_eq_true rfl) dX0_two_83)
        · replace hs := hs9
          refine lv_aload_n hx hb dX0_two_57 rfl (lv_at hl 0 rfl) ?_
          obtain ⟨ad33, ead33, hs⟩ := hs
          refine x_get (v := .ref ad33) X hK hI 0 3 rfl in_X0 rfl q331 rfl (xgr_spec ead33) dX0_two_58 ?_
          refine lv_aload_n hx hb dX0_two_61 rfl (lv_at hl 0 rfl) ?_
          obtain ⟨ad34, ead34, hs⟩ := hs
          refine x_get (v := .ref ad34) X hK hI 0 7 rfl in_X0 rfl q335 rfl (xgr_spec ead34) dX0_two_62 ?_
          refine lv_iload_n hx hb dX0_two_65 rfl (lv_at hl 1 rfl) ?_
          refine lv_iload_n hx hb dX0_two_66 rfl (lv_at hl 2 rfl) ?_
          refine lv_iload_n hx hb dX0_two_67 rfl (lv_at hl 3 rfl) ?_
          obtain ⟨h36, hs⟩ := hs
          obtain ⟨fh36, h36⟩ := xcl_spec h36
          refine x_gor hA hI (x_runV (As := [.ref ad34, .int a1, .int a2, .int a3]) (rest := []) X hK hA hG hI h36 (q := (RX2, TX2, 12)) rfl rfl (xet_X2_ofTwo l ad33 ad34 a1 a2 a3 _ _ hs) iX2_ofTwo q1276 q1277 q1278 q96 ⟨(Nat.le_of_ble_eq_true rfl), (Nat.le_of_ble_eq_true rfl)⟩ rfl hl.1 rfl (Nat.le_of_ble_eq_true rfl) dX0_two_68 ⟨(Nat.le_of_ble_eq_true rfl), (Nat.le_of_ble_eq_true rfl)⟩) (fun ad36 C35 H locs hs9 hI => ?_)
          replace hs := hs9
          obtain ⟨h39, hs⟩ := hs
          obtain ⟨fh39, h39⟩ := xcl_spec h39
          refine x_goi hA hI (x_runV (As := []) (rest := []) X hK hA hG hI h39 (q := (RX2, TX2, 12)) rfl rfl (xet_X2_comesIn l ad36 _ _ hs) iX2_comesIn q1197 q1198 q1199 q96 ⟨(Nat.le_of_ble_eq_true rfl), (Nat.le_of_ble_eq_true rfl)⟩ rfl hl.1 rfl (Nat.le_of_ble_eq_true rfl) dX0_two_71 ⟨(Nat.le_of_ble_eq_true rfl), (Nat.le_of_ble_eq_true rfl)⟩) (fun r39 C38 H locs hs9 hI => ?_)
          replace hs := hs9
          exact vx_ret (x_reti X hK hI hs (Nat.le_of_ble_eq_true rfl) (Nat.le_of_ble_eq_true rfl) dX0_two_74)
      refine lv_icmp_eq (tgt := 51) hx hb dX0_two_44 (by decide) (fun c45 => ?_) (fun c45 => ?_)
      · replace hs := ifp c45 hs
        refine lv_iconst (v := 0) hx hb dX0_two_51 (by decide) ?_
        exact Ek52_31 _ _ _ _ hs hI hl
      · replace hs := ifn c45 hs
        refine lv_iconst (v := 1) hx hb dX0_two_47 (by decide) ?_
        refine lv_goto (tgt := 52) hx hb dX0_two_48 (by decide) ?_
        exact Ek52_31 _ _ _ _ hs hI hl
  refine lv_if_eq (tgt := 37) hx hb dX0_two_8 (by decide) (fun c61 => ?_) (fun c61 => ?_)
  · replace hs := ifp c61 hs
    exact Ek37_5 _ _ _ _ hs hI hl
  · replace hs := ifn c61 hs
    refine lv_aload_n hx hb dX0_two_11 rfl (lv_at hl 0 rfl) ?_
    obtain ⟨ad52, ead52, hs⟩ := hs
    refine x_get (v := .ref ad52) X hK hI 0 7 rfl in_X0 rfl q335 rfl (xgr_spec ead52) dX0_two_12 ?_
    refine lv_iload_n hx hb dX0_two_15 rfl (lv_at hl 2 rfl) ?_
    obtain ⟨h54, hs⟩ := hs
    obtain ⟨fh54, h54⟩ := xcl_spec h54
    refine x_goz hA hI (x_runV (As := [.int a2]) (rest := []) X hK hA hG hI h54 (q := (RX4, TX4, 13)) rfl rfl (xet_X4_isChild l ad52 a2 _ _ hs) iX4_isChild q653 q654 q655 q98 ⟨(Nat.le_of_ble_eq_true rfl), (Nat.le_of_ble_eq_true rfl)⟩ rfl hl.1 rfl (Nat.le_of_ble_eq_true rfl) dX0_two_16 ⟨(Nat.le_of_ble_eq_true rfl), (Nat.le_of_ble_eq_true rfl)⟩) (fun r54 C53 H locs br54 hs9 hI => ?_)
    replace hs := hs9
    refine lv_if_eq (tgt := 37) hx hb dX0_two_19 (by decide) (fun c60 => ?_) (fun c60 => ?_)
    · replace hs := ifp c60 hs
      exact Ek37_5 _ _ _ _ hs hI hl
    · replace hs := ifn c60 hs
      refine lv_aload_n hx hb dX0_two_22 rfl (lv_at hl 0 rfl) ?_
      obtain ⟨ad56, ead56, hs⟩ := hs
      refine x_get (v := .ref ad56) X hK hI 0 7 rfl in_X0 rfl q335 rfl (xgr_spec ead56) dX0_two_23 ?_
      refine lv_iload_n hx hb dX0_two_26 rfl (lv_at hl 3 rfl) ?_
      obtain ⟨h58, hs⟩ := hs
      obtain ⟨fh58, h58⟩ := xcl_spec h58
      refine x_goz hA hI (x_runV (As := [.int a3]) (rest := []) X hK hA hG hI h58 (q := (RX4, TX4, 13)) rfl rfl (xet_X4_isSack l ad56 a3 _ _ hs) iX4_isSack q920 q698 q699 q98 ⟨(Nat.le_of_ble_eq_true rfl), (Nat.le_of_ble_eq_true rfl)⟩ rfl hl.1 rfl (Nat.le_of_ble_eq_true rfl) dX0_two_27 ⟨(Nat.le_of_ble_eq_true rfl), (Nat.le_of_ble_eq_true rfl)⟩) (fun r58 C57 H locs br58 hs9 hI => ?_)
      replace hs := hs9
      refine lv_if_eq (tgt := 37) hx hb dX0_two_30 (by decide) (fun c59 => ?_) (fun c59 => ?_)
      · replace hs := ifp c59 hs
        exact Ek37_5 _ _ _ _ hs hI hl
      · replace hs := ifn c59 hs
        refine lv_iconst (v := 1) hx hb dX0_two_33 (by decide) ?_
        refine lv_goto (tgt := 38) hx hb dX0_two_34 (by decide) ?_
        exact Ek38_29 _ _ _ _ _ hs hI hl
