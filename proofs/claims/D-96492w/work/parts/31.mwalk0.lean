set_option maxRecDepth 100000
def m_isShelf (a1 : Int32) (S : MS) (K : Int32 → MS → Prop) : Prop := (if a1 < 0 then K 0 S else (if 8 ≤ a1 then K 0 S else K 1 S))
theorem iX6_isShelf : mInf yX6_isShelf cX6_isShelf 2 (some .boolean) 1 := ⟨q1660, qs39, q1661, by decide +kernel⟩
set_option maxHeartbeats 4000000 in
theorem met_isShelf (l : Launch) (a1 : Int32) (S : MS) (K : Int32 → MS → Prop) (hs : m_isShelf a1 S K) : mMetz l yX6_isShelf cX6_isShelf 2 0 0 S (fun ad => [.int a1]) K := by
  intro D dT h ad sz
  refine mEnter (Qc := mQz D dT h ad K) (by decide) rfl (by rfl) ?_
  intro p e s m args below meth c A ls X hK hA hM hl
  have hx := X.1
  have hb := X.2.1
  have hts := X.2.2.2.2.1
  have hown := X.2.2.2.2.2.1
  have hl : lv_has ls 2 [(0, .ref h), (1, .int a1)] := hl
  unfold m_isShelf at hs
  refine lv_iload_n hx hb dX6_isShelf_0 rfl (lv_at hl 1 rfl) ?_
  refine lv_if_lt (tgt := 14) hx hb dX6_isShelf_1 (by decide) (fun c1 => ?_) (fun c1 => ?_)
  · replace hs := ifp c1 hs
    refine lv_iconst (v := 0) hx hb dX6_isShelf_14 (by decide) ?_
    exact m_retz X hK hM isB0 hs dX6_isShelf_15
  · replace hs := ifn c1 hs
    refine lv_iload_n hx hb dX6_isShelf_4 rfl (lv_at hl 1 rfl) ?_
    refine lv_bipush (v := 8) hx hb dX6_isShelf_5 (by decide) ?_
    refine lv_icmp_ge (tgt := 14) hx hb dX6_isShelf_7 (by decide) (fun c0 => ?_) (fun c0 => ?_)
    · replace hs := ifp c0 hs
      refine lv_iconst (v := 0) hx hb dX6_isShelf_14 (by decide) ?_
      exact m_retz X hK hM isB0 hs dX6_isShelf_15
    · replace hs := ifn c0 hs
      refine lv_iconst (v := 1) hx hb dX6_isShelf_10 (by decide) ?_
      refine lv_goto (tgt := 15) hx hb dX6_isShelf_11 (by decide) ?_
      exact m_retz X hK hM isB1 hs dX6_isShelf_15
def m_no (a1 : Int32) (S : MS) (K : Int32 → MS → Prop) : Prop := obd (mald S 10 (-a1)) (fun v1 => obd (mast S 10 (-a1) (v1 + 1)) (fun S2 => K a1 S2))
theorem iX6_no : mInf yX6_no cX6_no 2 (some .int) 1 := ⟨q1664, qs40, q1665, by decide +kernel⟩
set_option maxHeartbeats 4000000 in
theorem met_no (l : Launch) (a1 : Int32) (S : MS) (K : Int32 → MS → Prop) (hs : m_no a1 S K) : mMeti l yX6_no cX6_no 2 0 0 S (fun ad => [.int a1]) K := by
  intro D dT h ad sz
  refine mEnter (Qc := mQi D dT h ad K) (by decide) rfl (by rfl) ?_
  intro p e s m args below meth c A ls X hK hA hM hl
  have hx := X.1
  have hb := X.2.1
  have hts := X.2.2.2.2.1
  have hown := X.2.2.2.2.2.1
  have hl : lv_has ls 2 [(0, .ref h), (1, .int a1)] := hl
  unfold m_no at hs
  refine lv_aload_n hx hb dX6_no_0 rfl (lv_at hl 0 rfl) ?_
  refine m_geti (v := .ref (ad 10)) X hK hM 10 q1486 rfl rfl rfl dX6_no_1 ?_
  refine lv_iload_n hx hb dX6_no_4 rfl (lv_at hl 1 rfl) ?_
  refine lv_ineg hx hb dX6_no_5 ?_
  refine lv_dup2_11 hx hb dX6_no_6 rfl rfl ?_
  obtain ⟨v1, ev1, hs⟩ := hs
  refine m_iald X hK hM rfl ev1 dX6_no_7 ?_
  refine lv_iconst (v := 1) hx hb dX6_no_8 (by decide) ?_
  refine lv_iadd hx hb dX6_no_9 ?_
  obtain ⟨S2, eS2, hs⟩ := hs
  refine m_iast X hK hM rfl eS2 dX6_no_10 (fun H locs hM => ?_)
  refine lv_iload_n hx hb dX6_no_11 rfl (lv_at hl 1 rfl) ?_
  exact m_reti X hK hM hs dX6_no_12
def m_row_l79 (K : Int32 → MS → Prop) (a1 : Int32) : Nat → Int32 → MS → Prop
  | 0, _, _ => False
  | n79_9 + 1, x8, S9 => (if 160 ≤ x8 then K 1 S9 else obd (mlst S9 23 ((160 * a1) + x8) 0) (fun S11 => m_row_l79 K a1 n79_9 (x8 + 1) S11))
theorem m_row_l79_s (K : Int32 → MS → Prop) (a1 : Int32) (n79_9 : Nat) (x8 : Int32) (S9 : MS) : m_row_l79 K a1 (n79_9 + 1) x8 S9 = ((if 160 ≤ x8 then K 1 S9 else obd (mlst S9 23 ((160 * a1) + x8) 0) (fun S11 => m_row_l79 K a1 n79_9 (x8 + 1) S11))) := rfl
def m_row (a1 : Int32) (a2 : Int32) (a3 : Int32) (S : MS) (K : Int32 → MS → Prop) : Prop := m_isShelf a1 S (fun r2 S1 => (if r2 = 0 then m_no (-1) S1 (fun r22 S21 => K r22 S21) else (if 0 ≤ a3 then jn (m_no (-6) S1 (fun r4 S3 => K r4 S3)) (fun k34_2 => (if a2 < 0 then k34_2 else (if a2 ≤ 3 then (if a3 ≤ 160 then obd (mast S1 19 a1 1) (fun S5 => obd (mast S5 20 a1 a2) (fun S6 => obd (mast S6 21 a1 a3) (fun S7 => m_row_l79 K a1 NF 0 S7))) else m_no (-7) S1 (fun r14 S13 => K r14 S13)) else k34_2))) else m_no (-4) S1 (fun r19 S18 => K r19 S18))))
theorem iX6_row : mInf yX6_row cX6_row 5 (some .int) 3 := ⟨q1655, q1656, q1657, by decide +kernel⟩
set_option maxHeartbeats 4000000 in
theorem met_row (l : Launch) (a1 : Int32) (a2 : Int32) (a3 : Int32) (S : MS) (K : Int32 → MS → Prop) (hs : m_row a1 a2 a3 S K) : mMeti l yX6_row cX6_row 5 1 21 S (fun ad => [.int a1, .int a2, .int a3]) K := by
  intro D dT h ad sz
  refine mEnter (Qc := mQi D dT h ad K) (by decide) rfl (by rfl) ?_
  intro p e s m args below meth c A ls X hK hA hM hl
  have hx := X.1
  have hb := X.2.1
  have hts := X.2.2.2.2.1
  have hown := X.2.2.2.2.2.1
  have hl : lv_has ls 5 [(0, .ref h), (1, .int a1), (2, .int a2), (3, .int a3)] := hl
  unfold m_row at hs
  refine lv_aload_n hx hb dX6_row_0 rfl (lv_at hl 0 rfl) ?_
  refine lv_iload_n hx hb dX6_row_1 rfl (lv_at hl 1 rfl) ?_
  refine m_callz (rest := []) (av := fun ad => [.int a1]) X hK hA hM (met_isShelf l a1 _ _ hs) iX6_isShelf q1658 ⟨Nat.le_of_ble_eq_true rfl, Nat.le_of_ble_eq_true rfl⟩ rfl hl.1 rfl (Nat.le_of_ble_eq_true rfl) dX6_row_2 (fun r2 S1 H locs br2 hs hM => ?_)
  refine lv_if_ne (tgt := 14) hx hb dX6_row_5 (by decide) (fun c22 => ?_) (fun c22 => ?_)
  · replace hs := ifn c22 hs
    refine lv_iload_n hx hb dX6_row_14 rfl (lv_at hl 3 rfl) ?_
    refine lv_if_ge (tgt := 25) hx hb dX6_row_15 (by decide) (fun c19 => ?_) (fun c19 => ?_)
    · replace hs := ifp c19 hs
      refine lv_iload_n hx hb dX6_row_25 rfl (lv_at hl 2 rfl) ?_
      obtain ⟨k34_2, hk34_2, hs⟩ := jn_ex hs
      have Ek34_2 : ∀ (H : Heap) (locs : List Loc) (ls : Array Slot), k34_2 → mI D dT A s.heap h ad S1 H locs → lv_has ls 5 [(0, .ref h)] → W p l e (mRm 1 21) s m args below meth c H locs 0 0 (MQ below (mQi D dT h ad K A) args s 0 0 A) (F0 m 34 ls []) := by
        intro H locs ls hs hM hl
        rw [hk34_2] at hs
        refine lv_aload_n hx hb dX6_row_34 rfl (lv_at hl 0 rfl) ?_
        refine lv_bipush (v := (-6)) hx hb dX6_row_35 (by decide) ?_
        refine m_calli (rest := []) (av := fun ad => [.int (-6)]) X hK hA hM (met_no l (-6) _ _ hs) iX6_no q1662 ⟨Nat.le_of_ble_eq_true rfl, Nat.le_of_ble_eq_true rfl⟩ rfl hl.1 rfl (Nat.le_of_ble_eq_true rfl) dX6_row_37 (fun r4 S3 H locs hs hM => ?_)
        exact m_reti X hK hM hs dX6_row_40
      refine lv_if_lt (tgt := 34) hx hb dX6_row_26 (by decide) (fun c16 => ?_) (fun c16 => ?_)
      · replace hs := ifp c16 hs
        exact Ek34_2 _ _ _ hs hM (lv_sub hl [0] rfl)
      · replace hs := ifn c16 hs
        refine lv_iload_n hx hb dX6_row_29 rfl (lv_at hl 2 rfl) ?_
        refine lv_iconst (v := 3) hx hb dX6_row_30 (by decide) ?_
        refine lv_icmp_le (tgt := 41) hx hb dX6_row_31 (by decide) (fun c15 => ?_) (fun c15 => ?_)
        · replace hs := ifp c15 hs
          refine lv_iload_n hx hb dX6_row_41 rfl (lv_at hl 3 rfl) ?_
          refine lv_sipush (v := 160) hx hb dX6_row_42 (by decide) ?_
          refine lv_icmp_le (tgt := 55) hx hb dX6_row_45 (by decide) (fun c14 => ?_) (fun c14 => ?_)
          · replace hs := ifp c14 hs
            refine lv_aload_n hx hb dX6_row_55 rfl (lv_at hl 0 rfl) ?_
            refine m_geti (v := .ref (ad 19)) X hK hM 19 q1495 rfl rfl rfl dX6_row_56 ?_
            refine lv_iload_n hx hb dX6_row_59 rfl (lv_at hl 1 rfl) ?_
            refine lv_iconst (v := 1) hx hb dX6_row_60 (by decide) ?_
            obtain ⟨S5, eS5, hs⟩ := hs
            refine m_iast X hK hM rfl eS5 dX6_row_61 (fun H locs hM => ?_)
            refine lv_aload_n hx hb dX6_row_62 rfl (lv_at hl 0 rfl) ?_
            refine m_geti (v := .ref (ad 20)) X hK hM 20 q1496 rfl rfl rfl dX6_row_63 ?_
            refine lv_iload_n hx hb dX6_row_66 rfl (lv_at hl 1 rfl) ?_
            refine lv_iload_n hx hb dX6_row_67 rfl (lv_at hl 2 rfl) ?_
            obtain ⟨S6, eS6, hs⟩ := hs
            refine m_iast X hK hM rfl eS6 dX6_row_68 (fun H locs hM => ?_)
            refine lv_aload_n hx hb dX6_row_69 rfl (lv_at hl 0 rfl) ?_
            refine m_geti (v := .ref (ad 21)) X hK hM 21 q1497 rfl rfl rfl dX6_row_70 ?_
            refine lv_iload_n hx hb dX6_row_73 rfl (lv_at hl 1 rfl) ?_
            refine lv_iload_n hx hb dX6_row_74 rfl (lv_at hl 3 rfl) ?_
            obtain ⟨S7, eS7, hs⟩ := hs
            refine m_iast X hK hM rfl eS7 dX6_row_75 (fun H locs hM => ?_)
            refine lv_iconst (v := 0) hx hb dX6_row_76 (by decide) ?_
            refine lv_istore (lv' := [(4, .int 0), (0, .ref h), (1, .int a1), (2, .int a2), (3, .int a3)]) hx hb dX6_row_77 hl (by decide) rfl (fun ls hl => ?_)
            have Lm_row_l79 : ∀ (n79_9 : Nat) (x8 : Int32) (S9 : MS) (H : Heap) (locs : List Loc) (ls : Array Slot), m_row_l79 K a1 n79_9 x8 S9 → mI D dT A s.heap h ad S9 H locs → lv_has ls 5 [(0, .ref h), (1, .int a1), (4, .int x8)] → W p l e (mRm 1 21) s m args below meth c H locs 0 0 (MQ below (mQi D dT h ad K A) args s 0 0 A) (F0 m 79 ls []) := by
              intro n79_9
              induction n79_9 with
              | zero =>
                intro x8 S9 H locs ls hs
                exact False.elim hs
              | succ n79_9 ihm_row_l79 =>
                intro x8 S9 H locs ls hs hM hl
                rw [m_row_l79_s] at hs
                refine lv_iload hx hb dX6_row_79 (lv_at hl 2 rfl) ?_
                refine lv_sipush (v := 160) hx hb dX6_row_81 (by decide) ?_
                refine lv_icmp_ge (tgt := 107) hx hb dX6_row_84 (by decide) (fun c11 => ?_) (fun c11 => ?_)
                · replace hs := ifp c11 hs
                  refine lv_iconst (v := 1) hx hb dX6_row_107 (by decide) ?_
                  exact m_reti X hK hM hs dX6_row_108
                · replace hs := ifn c11 hs
                  refine lv_aload_n hx hb dX6_row_87 rfl (lv_at hl 0 rfl) ?_
                  refine m_geti (v := .ref (ad 23)) X hK hM 23 q1499 rfl rfl rfl dX6_row_88 ?_
                  refine lv_sipush (v := 160) hx hb dX6_row_91 (by decide) ?_
                  refine lv_iload_n hx hb dX6_row_94 rfl (lv_at hl 1 rfl) ?_
                  refine lv_imul hx hb dX6_row_95 ?_
                  refine lv_iload hx hb dX6_row_96 (lv_at hl 2 rfl) ?_
                  refine lv_iadd hx hb dX6_row_98 ?_
                  refine lv_lconst (v := 0) hx hb dX6_row_99 (by decide) ?_
                  obtain ⟨S11, eS11, hs⟩ := hs
                  refine m_last X hK hM rfl eS11 dX6_row_100 (fun H locs hM => ?_)
                  refine lv_iinc (v := (x8 + 1)) (lv' := [(4, .int (x8 + 1)), (0, .ref h), (1, .int a1)]) hx hb dX6_row_101 hl (k := 2) rfl (congrArg (fun z => x8 + z) (show Int32.ofInt (1) = 1 by decide)) (by decide) rfl (fun ls hl => ?_)
                  refine lv_goto (tgt := 79) hx hb dX6_row_104 (by decide) ?_
                  exact ihm_row_l79 _ _ _ _ _ hs hM (lv_sub hl [1, 2, 0] rfl)
            exact Lm_row_l79 NF _ _ _ _ _ hs hM (lv_sub hl [1, 2, 0] rfl)
          · replace hs := ifn c14 hs
            refine lv_aload_n hx hb dX6_row_48 rfl (lv_at hl 0 rfl) ?_
            refine lv_bipush (v := (-7)) hx hb dX6_row_49 (by decide) ?_
            refine m_calli (rest := []) (av := fun ad => [.int (-7)]) X hK hA hM (met_no l (-7) _ _ hs) iX6_no q1662 ⟨Nat.le_of_ble_eq_true rfl, Nat.le_of_ble_eq_true rfl⟩ rfl hl.1 rfl (Nat.le_of_ble_eq_true rfl) dX6_row_51 (fun r14 S13 H locs hs hM => ?_)
            exact m_reti X hK hM hs dX6_row_54
        · replace hs := ifn c15 hs
          exact Ek34_2 _ _ _ hs hM (lv_sub hl [0] rfl)
    · replace hs := ifn c19 hs
      refine lv_aload_n hx hb dX6_row_18 rfl (lv_at hl 0 rfl) ?_
      refine lv_bipush (v := (-4)) hx hb dX6_row_19 (by decide) ?_
      refine m_calli (rest := []) (av := fun ad => [.int (-4)]) X hK hA hM (met_no l (-4) _ _ hs) iX6_no q1662 ⟨Nat.le_of_ble_eq_true rfl, Nat.le_of_ble_eq_true rfl⟩ rfl hl.1 rfl (Nat.le_of_ble_eq_true rfl) dX6_row_21 (fun r19 S18 H locs hs hM => ?_)
      exact m_reti X hK hM hs dX6_row_24
  · replace hs := ifp c22 hs
    refine lv_aload_n hx hb dX6_row_8 rfl (lv_at hl 0 rfl) ?_
    refine lv_iconst (v := (-1)) hx hb dX6_row_9 (by decide) ?_
    refine m_calli (rest := []) (av := fun ad => [.int (-1)]) X hK hA hM (met_no l (-1) _ _ hs) iX6_no q1662 ⟨Nat.le_of_ble_eq_true rfl, Nat.le_of_ble_eq_true rfl⟩ rfl hl.1 rfl (Nat.le_of_ble_eq_true rfl) dX6_row_10 (fun r22 S21 H locs hs hM => ?_)
    exact m_reti X hK hM hs dX6_row_13
def m_set (a1 : Int32) (a2 : Int32) (a3 : Int64) (S : MS) (K : Int32 → MS → Prop) : Prop := m_isShelf a1 S (fun r2 S1 => (if r2 = 0 then m_no (-1) S1 (fun r27 S26 => K r27 S26) else obd (mald S1 19 a1) (fun v3 => (if v3 = 2 then m_no (-2) S1 (fun r24 S23 => K r24 S23) else obd (mald S1 19 a1) (fun v4 => (if v4 = 0 then m_no (-3) S1 (fun r21 S20 => K r21 S20) else jn (m_no (-5) S1 (fun r6 S5 => K r6 S5)) (fun k61_4 => (if a2 < 0 then k61_4 else obd (mald S1 21 a1) (fun v7 => (if a2 < v7 then obd (mald S1 20 a1) (fun v8 => (if v8 = 0 then obd (mlst S1 23 ((160 * a1) + a2) ((((((a3 : Int64).toInt32) : Int32).toInt8.toInt32) : Int32).toInt64)) (fun S16 => K 1 S16) else obd (mald S1 20 a1) (fun v9 => (if v9 = 1 then obd (mlst S1 23 ((160 * a1) + a2) ((((((a3 : Int64).toInt32) : Int32).toInt16.toInt32) : Int32).toInt64)) (fun S14 => K 1 S14) else obd (mald S1 20 a1) (fun v10 => (if v10 = 2 then obd (mlst S1 23 ((160 * a1) + a2) ((((a3 : Int64).toInt32) : Int32).toInt64)) (fun S12 => K 1 S12) else obd (mlst S1 23 ((160 * a1) + a2) a3) (fun S11 => K 1 S11))))))) else k61_4))))))))))
theorem iX6_set : mInf yX6_set cX6_set 5 (some .int) 3 := ⟨q1667, q1668, q1669, by decide +kernel⟩
set_option maxHeartbeats 4000000 in
theorem met_set (l : Launch) (a1 : Int32) (a2 : Int32) (a3 : Int64) (S : MS) (K : Int32 → MS → Prop) (hs : m_set a1 a2 a3 S K) : mMeti l yX6_set cX6_set 5 1 21 S (fun ad => [.int a1, .int a2, .long a3]) K := by
  intro D dT h ad sz
  refine mEnter (Qc := mQi D dT h ad K) (by decide) rfl (by rfl) ?_
  intro p e s m args below meth c A ls X hK hA hM hl
  have hx := X.1
  have hb := X.2.1
  have hts := X.2.2.2.2.1
  have hown := X.2.2.2.2.2.1
  have hl : lv_has ls 5 [(0, .ref h), (1, .int a1), (2, .int a2), (3, .long a3)] := hl
  unfold m_set at hs
  refine lv_aload_n hx hb dX6_set_0 rfl (lv_at hl 0 rfl) ?_
  refine lv_iload_n hx hb dX6_set_1 rfl (lv_at hl 1 rfl) ?_
  refine m_callz (rest := []) (av := fun ad => [.int a1]) X hK hA hM (met_isShelf l a1 _ _ hs) iX6_isShelf q1658 ⟨Nat.le_of_ble_eq_true rfl, Nat.le_of_ble_eq_true rfl⟩ rfl hl.1 rfl (Nat.le_of_ble_eq_true rfl) dX6_set_2 (fun r2 S1 H locs br2 hs hM => ?_)
  refine lv_if_ne (tgt := 14) hx hb dX6_set_5 (by decide) (fun c27 => ?_) (fun c27 => ?_)
  · replace hs := ifn c27 hs
    refine lv_aload_n hx hb dX6_set_14 rfl (lv_at hl 0 rfl) ?_
    refine m_geti (v := .ref (ad 19)) X hK hM 19 q1495 rfl rfl rfl dX6_set_15 ?_
    refine lv_iload_n hx hb dX6_set_18 rfl (lv_at hl 1 rfl) ?_
    obtain ⟨v3, ev3, hs⟩ := hs
    refine m_iald X hK hM rfl ev3 dX6_set_19 ?_
    refine lv_iconst (v := 2) hx hb dX6_set_20 (by decide) ?_
    refine lv_icmp_ne (tgt := 31) hx hb dX6_set_21 (by decide) (fun c24 => ?_) (fun c24 => ?_)
    · replace hs := ifn c24 hs
      refine lv_aload_n hx hb dX6_set_31 rfl (lv_at hl 0 rfl) ?_
      refine m_geti (v := .ref (ad 19)) X hK hM 19 q1495 rfl rfl rfl dX6_set_32 ?_
      refine lv_iload_n hx hb dX6_set_35 rfl (lv_at hl 1 rfl) ?_
      obtain ⟨v4, ev4, hs⟩ := hs
      refine m_iald X hK hM rfl ev4 dX6_set_36 ?_
      refine lv_if_ne (tgt := 47) hx hb dX6_set_37 (by decide) (fun c21 => ?_) (fun c21 => ?_)
      · replace hs := ifn c21 hs
        refine lv_iload_n hx hb dX6_set_47 rfl (lv_at hl 2 rfl) ?_
        obtain ⟨k61_4, hk61_4, hs⟩ := jn_ex hs
        have Ek61_4 : ∀ (H : Heap) (locs : List Loc) (ls : Array Slot), k61_4 → mI D dT A s.heap h ad S1 H locs → lv_has ls 5 [(0, .ref h)] → W p l e (mRm 1 21) s m args below meth c H locs 0 0 (MQ below (mQi D dT h ad K A) args s 0 0 A) (F0 m 61 ls []) := by
          intro H locs ls hs hM hl
          rw [hk61_4] at hs
          refine lv_aload_n hx hb dX6_set_61 rfl (lv_at hl 0 rfl) ?_
          refine lv_bipush (v := (-5)) hx hb dX6_set_62 (by decide) ?_
          refine m_calli (rest := []) (av := fun ad => [.int (-5)]) X hK hA hM (met_no l (-5) _ _ hs) iX6_no q1662 ⟨Nat.le_of_ble_eq_true rfl, Nat.le_of_ble_eq_true rfl⟩ rfl hl.1 rfl (Nat.le_of_ble_eq_true rfl) dX6_set_64 (fun r6 S5 H locs hs hM => ?_)
          exact m_reti X hK hM hs dX6_set_67
        refine lv_if_lt (tgt := 61) hx hb dX6_set_48 (by decide) (fun c18 => ?_) (fun c18 => ?_)
        · replace hs := ifp c18 hs
          exact Ek61_4 _ _ _ hs hM (lv_sub hl [0] rfl)
        · replace hs := ifn c18 hs
          refine lv_iload_n hx hb dX6_set_51 rfl (lv_at hl 2 rfl) ?_
          refine lv_aload_n hx hb dX6_set_52 rfl (lv_at hl 0 rfl) ?_
          refine m_geti (v := .ref (ad 21)) X hK hM 21 q1497 rfl rfl rfl dX6_set_53 ?_
          refine lv_iload_n hx hb dX6_set_56 rfl (lv_at hl 1 rfl) ?_
          obtain ⟨v7, ev7, hs⟩ := hs
          refine m_iald X hK hM rfl ev7 dX6_set_57 ?_
          refine lv_icmp_lt (tgt := 68) hx hb dX6_set_58 (by decide) (fun c17 => ?_) (fun c17 => ?_)
          · replace hs := ifp c17 hs
            refine lv_aload_n hx hb dX6_set_68 rfl (lv_at hl 0 rfl) ?_
            refine m_geti (v := .ref (ad 23)) X hK hM 23 q1499 rfl rfl rfl dX6_set_69 ?_
            refine lv_sipush (v := 160) hx hb dX6_set_72 (by decide) ?_
            refine lv_iload_n hx hb dX6_set_75 rfl (lv_at hl 1 rfl) ?_
            refine lv_imul hx hb dX6_set_76 ?_
            refine lv_iload_n hx hb dX6_set_77 rfl (lv_at hl 2 rfl) ?_
            refine lv_iadd hx hb dX6_set_78 ?_
            refine lv_aload_n hx hb dX6_set_79 rfl (lv_at hl 0 rfl) ?_
            refine m_geti (v := .ref (ad 20)) X hK hM 20 q1496 rfl rfl rfl dX6_set_80 ?_
            refine lv_iload_n hx hb dX6_set_83 rfl (lv_at hl 1 rfl) ?_
            obtain ⟨v8, ev8, hs⟩ := hs
            refine m_iald X hK hM rfl ev8 dX6_set_84 ?_
            refine lv_if_ne (tgt := 95) hx hb dX6_set_85 (by decide) (fun c16 => ?_) (fun c16 => ?_)
            · replace hs := ifn c16 hs
              refine lv_aload_n hx hb dX6_set_95 rfl (lv_at hl 0 rfl) ?_
              refine m_geti (v := .ref (ad 20)) X hK hM 20 q1496 rfl rfl rfl dX6_set_96 ?_
              refine lv_iload_n hx hb dX6_set_99 rfl (lv_at hl 1 rfl) ?_
              obtain ⟨v9, ev9, hs⟩ := hs
              refine m_iald X hK hM rfl ev9 dX6_set_100 ?_
              refine lv_iconst (v := 1) hx hb dX6_set_101 (by decide) ?_
              refine lv_icmp_ne (tgt := 112) hx hb dX6_set_102 (by decide) (fun c14 => ?_) (fun c14 => ?_)
              · replace hs := ifn c14 hs
                refine lv_aload_n hx hb dX6_set_112 rfl (lv_at hl 0 rfl) ?_
                refine m_geti (v := .ref (ad 20)) X hK hM 20 q1496 rfl rfl rfl dX6_set_113 ?_
                refine lv_iload_n hx hb dX6_set_116 rfl (lv_at hl 1 rfl) ?_
                obtain ⟨v10, ev10, hs⟩ := hs
                refine m_iald X hK hM rfl ev10 dX6_set_117 ?_
                refine lv_iconst (v := 2) hx hb dX6_set_118 (by decide) ?_
                refine lv_icmp_ne (tgt := 128) hx hb dX6_set_119 (by decide) (fun c12 => ?_) (fun c12 => ?_)
                · replace hs := ifn c12 hs
                  refine lv_lload_n hx hb dX6_set_128 rfl (lv_at hl 3 rfl) ?_
                  obtain ⟨S11, eS11, hs⟩ := hs
                  refine m_last X hK hM rfl eS11 dX6_set_129 (fun H locs hM => ?_)
                  refine lv_iconst (v := 1) hx hb dX6_set_130 (by decide) ?_
                  exact m_reti X hK hM hs dX6_set_131
                · replace hs := ifp c12 hs
                  refine lv_lload_n hx hb dX6_set_122 rfl (lv_at hl 3 rfl) ?_
                  refine lv_l2i (v := ((a3 : Int64).toInt32)) hx hb dX6_set_123 rfl ?_
                  refine lv_i2l (v := ((((a3 : Int64).toInt32) : Int32).toInt64)) hx hb dX6_set_124 rfl ?_
                  refine lv_goto (tgt := 129) hx hb dX6_set_125 (by decide) ?_
                  obtain ⟨S12, eS12, hs⟩ := hs
                  refine m_last X hK hM rfl eS12 dX6_set_129 (fun H locs hM => ?_)
                  refine lv_iconst (v := 1) hx hb dX6_set_130 (by decide) ?_
                  exact m_reti X hK hM hs dX6_set_131
              · replace hs := ifp c14 hs
                refine lv_lload_n hx hb dX6_set_105 rfl (lv_at hl 3 rfl) ?_
                refine lv_l2i (v := ((a3 : Int64).toInt32)) hx hb dX6_set_106 rfl ?_
                refine lv_i2s (v := ((((a3 : Int64).toInt32) : Int32).toInt16.toInt32)) hx hb dX6_set_107 rfl ?_
                refine lv_i2l (v := ((((((a3 : Int64).toInt32) : Int32).toInt16.toInt32) : Int32).toInt64)) hx hb dX6_set_108 rfl ?_
                refine lv_goto (tgt := 129) hx hb dX6_set_109 (by decide) ?_
                obtain ⟨S14, eS14, hs⟩ := hs
                refine m_last X hK hM rfl eS14 dX6_set_129 (fun H locs hM => ?_)
                refine lv_iconst (v := 1) hx hb dX6_set_130 (by decide) ?_
                exact m_reti X hK hM hs dX6_set_131
            · replace hs := ifp c16 hs
              refine lv_lload_n hx hb dX6_set_88 rfl (lv_at hl 3 rfl) ?_
              refine lv_l2i (v := ((a3 : Int64).toInt32)) hx hb dX6_set_89 rfl ?_
              refine lv_i2b (v := ((((a3 : Int64).toInt32) : Int32).toInt8.toInt32)) hx hb dX6_set_90 rfl ?_
              refine lv_i2l (v := ((((((a3 : Int64).toInt32) : Int32).toInt8.toInt32) : Int32).toInt64)) hx hb dX6_set_91 rfl ?_
              refine lv_goto (tgt := 129) hx hb dX6_set_92 (by decide) ?_
              obtain ⟨S16, eS16, hs⟩ := hs
              refine m_last X hK hM rfl eS16 dX6_set_129 (fun H locs hM => ?_)
              refine lv_iconst (v := 1) hx hb dX6_set_130 (by decide) ?_
              exact m_reti X hK hM hs dX6_set_131
          · replace hs := ifn c17 hs
            exact Ek61_4 _ _ _ hs hM (lv_sub hl [0] rfl)
      · replace hs := ifp c21 hs
        refine lv_aload_n hx hb dX6_set_40 rfl (lv_at hl 0 rfl) ?_
        refine lv_bipush (v := (-3)) hx hb dX6_set_41 (by decide) ?_
        refine m_calli (rest := []) (av := fun ad => [.int (-3)]) X hK hA hM (met_no l (-3) _ _ hs) iX6_no q1662 ⟨Nat.le_of_ble_eq_true rfl, Nat.le_of_ble_eq_true rfl⟩ rfl hl.1 rfl (Nat.le_of_ble_eq_true rfl) dX6_set_43 (fun r21 S20 H locs hs hM => ?_)
        exact m_reti X hK hM hs dX6_set_46
    · replace hs := ifp c24 hs
      refine lv_aload_n hx hb dX6_set_24 rfl (lv_at hl 0 rfl) ?_
      refine lv_bipush (v := (-2)) hx hb dX6_set_25 (by decide) ?_
      refine m_calli (rest := []) (av := fun ad => [.int (-2)]) X hK hA hM (met_no l (-2) _ _ hs) iX6_no q1662 ⟨Nat.le_of_ble_eq_true rfl, Nat.le_of_ble_eq_true rfl⟩ rfl hl.1 rfl (Nat.le_of_ble_eq_true rfl) dX6_set_27 (fun r24 S23 H locs hs hM => ?_)
      exact m_reti X hK hM hs dX6_set_30
  · replace hs := ifp c27 hs
    refine lv_aload_n hx hb dX6_set_8 rfl (lv_at hl 0 rfl) ?_
    refine lv_iconst (v := (-1)) hx hb dX6_set_9 (by decide) ?_
    refine m_calli (rest := []) (av := fun ad => [.int (-1)]) X hK hA hM (met_no l (-1) _ _ hs) iX6_no q1662 ⟨Nat.le_of_ble_eq_true rfl, Nat.le_of_ble_eq_true rfl⟩ rfl hl.1 rfl (Nat.le_of_ble_eq_true rfl) dX6_set_10 (fun r27 S26 H locs hs hM => ?_)
    exact m_reti X hK hM hs dX6_set_13
def m_copy_l205 (K : Int32 → MS → Prop) (a2 : Int32) (a4 : Int32) (a5 : Int32) : Nat → Int32 → MS → Prop
  | 0, _, _ => False
  | n205_24 + 1, x23, S24 => (if a5 ≤ x23 then K 1 S24 else obd (mlld S24 24 x23) (fun v26 => obd (mlst S24 23 (((160 * a2) + a4) + x23) v26) (fun S27 => m_copy_l205 K a2 a4 a5 n205_24 (x23 + 1) S27)))
theorem m_copy_l205_s (K : Int32 → MS → Prop) (a2 : Int32) (a4 : Int32) (a5 : Int32) (n205_24 : Nat) (x23 : Int32) (S24 : MS) : m_copy_l205 K a2 a4 a5 (n205_24 + 1) x23 S24 = ((if a5 ≤ x23 then K 1 S24 else obd (mlld S24 24 x23) (fun v26 => obd (mlst S24 23 (((160 * a2) + a4) + x23) v26) (fun S27 => m_copy_l205 K a2 a4 a5 n205_24 (x23 + 1) S27)))) := rfl
def m_copy_l167 (a1 : Int32) (a3 : Int32) (a5 : Int32) (k202_21 : MS → Prop) : Nat → Int32 → MS → Prop
  | 0, _, _ => False
  | n167_30 + 1, x29, S30 => (if a5 ≤ x29 then k202_21 S30 else obd (mlld S30 23 (((160 * a1) + a3) + x29)) (fun v32 => obd (mlst S30 24 x29 v32) (fun S33 => m_copy_l167 a1 a3 a5 k202_21 n167_30 (x29 + 1) S33)))
theorem m_copy_l167_s (a1 : Int32) (a3 : Int32) (a5 : Int32) (k202_21 : MS → Prop) (n167_30 : Nat) (x29 : Int32) (S30 : MS) : m_copy_l167 a1 a3 a5 k202_21 (n167_30 + 1) x29 S30 = ((if a5 ≤ x29 then k202_21 S30 else obd (mlld S30 23 (((160 * a1) + a3) + x29)) (fun v32 => obd (mlst S30 24 x29 v32) (fun S33 => m_copy_l167 a1 a3 a5 k202_21 n167_30 (x29 + 1) S33)))) := rfl
def m_copy (a1 : Int32) (a2 : Int32) (a3 : Int32) (a4 : Int32) (a5 : Int32) (S : MS) (K : Int32 → MS → Prop) : Prop := m_isShelf a1 S (fun r2 S1 => jn (fun (S3 : MS) => m_no (-1) S3 (fun r5 S4 => K r5 S4)) (fun k16_3 => (if r2 = 0 then k16_3 S1 else m_isShelf a2 S1 (fun r7 S6 => (if r7 = 0 then k16_3 S6 else obd (mald S6 19 a1) (fun v8 => jn (m_no (-2) S6 (fun r10 S9 => K r10 S9)) (fun k77_8 => (if v8 = 2 then k77_8 else obd (mald S6 19 a2) (fun v11 => (if v11 = 2 then k77_8 else obd (mald S6 19 a1) (fun v12 => jn (obd (mald S6 19 a1) (fun v13 => jn (m_no (-3) S6 (fun r15 S14 => K r15 S14)) (fun k102_13 => (if v13 = 0 then k102_13 else obd (mald S6 19 a2) (fun v16 => (if v16 = 0 then k102_13 else (if 0 ≤ a5 then jn (m_no (-5) S6 (fun r18 S17 => K r18 S17)) (fun k157_16 => (if a3 < 0 then k157_16 else (if a4 < 0 then k157_16 else obd (mald S6 21 a1) (fun v19 => (if (v19 - a5) < a3 then k157_16 else obd (mald S6 21 a2) (fun v20 => (if a4 ≤ (v20 - a5) then jn (fun (S21 : MS) => m_copy_l205 K a2 a4 a5 NF 0 S21) (fun k202_21 => m_copy_l167 a1 a3 a5 k202_21 NF 0 S6) else k157_16))))))) else m_no (-4) S6 (fun r40 S39 => K r40 S39)))))))) (fun k84_12 => (if v12 = 1 then obd (mald S6 19 a2) (fun v44 => (if v44 = 1 then obd (mald S6 20 a1) (fun v45 => obd (mald S6 20 a2) (fun v46 => (if v45 = v46 then k84_12 else k77_8))) else k84_12)) else k84_12)))))))))))))
theorem iX6_copy : mInf yX6_copy cX6_copy 7 (some .int) 5 := ⟨q1671, q1672, q1673, by decide +kernel⟩
set_option maxHeartbeats 4000000 in
theorem met_copy (l : Launch) (a1 : Int32) (a2 : Int32) (a3 : Int32) (a4 : Int32) (a5 : Int32) (S : MS) (K : Int32 → MS → Prop) (hs : m_copy a1 a2 a3 a4 a5 S K) : mMeti l yX6_copy cX6_copy 7 1 21 S (fun ad => [.int a1, .int a2, .int a3, .int a4, .int a5]) K := by
  intro D dT h ad sz
  refine mEnter (Qc := mQi D dT h ad K) (by decide) rfl (by rfl) ?_
  intro p e s m args below meth c A ls X hK hA hM hl
  have hx := X.1
  have hb := X.2.1
  have hts := X.2.2.2.2.1
  have hown := X.2.2.2.2.2.1
  have hl : lv_has ls 7 [(0, .ref h), (1, .int a1), (2, .int a2), (3, .int a3), (4, .int a4), (5, .int a5)] := hl
  unfold m_copy at hs
  refine lv_aload_n hx hb dX6_copy_0 rfl (lv_at hl 0 rfl) ?_
  refine lv_iload_n hx hb dX6_copy_1 rfl (lv_at hl 1 rfl) ?_
  refine m_callz (rest := []) (av := fun ad => [.int a1]) X hK hA hM (met_isShelf l a1 _ _ hs) iX6_isShelf q1658 ⟨Nat.le_of_ble_eq_true rfl, Nat.le_of_ble_eq_true rfl⟩ rfl hl.1 rfl (Nat.le_of_ble_eq_true rfl) dX6_copy_2 (fun r2 S1 H locs br2 hs hM => ?_)
  obtain ⟨k16_3, hk16_3, hs⟩ := jn_ex hs
  have Ek16_3 : ∀ (S3 : MS) (H : Heap) (locs : List Loc) (ls : Array Slot), k16_3 S3 → mI D dT A s.heap h ad S3 H locs → lv_has ls 7 [(0, .ref h)] → W p l e (mRm 1 21) s m args below meth c H locs 0 0 (MQ below (mQi D dT h ad K A) args s 0 0 A) (F0 m 16 ls []) := by
    intro S3 H locs ls hs hM hl
    rw [hk16_3] at hs
    refine lv_aload_n hx hb dX6_copy_16 rfl (lv_at hl 0 rfl) ?_
    refine lv_iconst (v := (-1)) hx hb dX6_copy_17 (by decide) ?_
    refine m_calli (rest := []) (av := fun ad => [.int (-1)]) X hK hA hM (met_no l (-1) _ _ hs) iX6_no q1662 ⟨Nat.le_of_ble_eq_true rfl, Nat.le_of_ble_eq_true rfl⟩ rfl hl.1 rfl (Nat.le_of_ble_eq_true rfl) dX6_copy_18 (fun r5 S4 H locs hs hM => ?_)
    exact m_reti X hK hM hs dX6_copy_21
  refine lv_if_eq (tgt := 16) hx hb dX6_copy_5 (by decide) (fun c52 => ?_) (fun c52 => ?_)
  · replace hs := ifp c52 hs
    exact Ek16_3 _ _ _ _ hs hM (lv_sub hl [0] rfl)
  · replace hs := ifn c52 hs
    refine lv_aload_n hx hb dX6_copy_8 rfl (lv_at hl 0 rfl) ?_
    refine lv_iload_n hx hb dX6_copy_9 rfl (lv_at hl 2 rfl) ?_
    refine m_callz (rest := []) (av := fun ad => [.int a2]) X hK hA hM (met_isShelf l a2 _ _ hs) iX6_isShelf q1658 ⟨Nat.le_of_ble_eq_true rfl, Nat.le_of_ble_eq_true rfl⟩ rfl hl.1 rfl (Nat.le_of_ble_eq_true rfl) dX6_copy_10 (fun r7 S6 H locs br7 hs hM => ?_)
    refine lv_if_ne (tgt := 22) hx hb dX6_copy_13 (by decide) (fun c51 => ?_) (fun c51 => ?_)
    · replace hs := ifn c51 hs
      refine lv_aload_n hx hb dX6_copy_22 rfl (lv_at hl 0 rfl) ?_
      refine m_geti (v := .ref (ad 19)) X hK hM 19 q1495 rfl rfl rfl dX6_copy_23 ?_
      refine lv_iload_n hx hb dX6_copy_26 rfl (lv_at hl 1 rfl) ?_
      obtain ⟨v8, ev8, hs⟩ := hs
      refine m_iald X hK hM rfl ev8 dX6_copy_27 ?_
      refine lv_iconst (v := 2) hx hb dX6_copy_28 (by decide) ?_
      obtain ⟨k77_8, hk77_8, hs⟩ := jn_ex hs
      have Ek77_8 : ∀ (H : Heap) (locs : List Loc) (ls : Array Slot), k77_8 → mI D dT A s.heap h ad S6 H locs → lv_has ls 7 [(0, .ref h)] → W p l e (mRm 1 21) s m args below meth c H locs 0 0 (MQ below (mQi D dT h ad K A) args s 0 0 A) (F0 m 77 ls []) := by
        intro H locs ls hs hM hl
        rw [hk77_8] at hs
        refine lv_aload_n hx hb dX6_copy_77 rfl (lv_at hl 0 rfl) ?_
        refine lv_bipush (v := (-2)) hx hb dX6_copy_78 (by decide) ?_
        refine m_calli (rest := []) (av := fun ad => [.int (-2)]) X hK hA hM (met_no l (-2) _ _ hs) iX6_no q1662 ⟨Nat.le_of_ble_eq_true rfl, Nat.le_of_ble_eq_true rfl⟩ rfl hl.1 rfl (Nat.le_of_ble_eq_true rfl) dX6_copy_80 (fun r10 S9 H locs hs hM => ?_)
        exact m_reti X hK hM hs dX6_copy_83
      refine lv_icmp_eq (tgt := 77) hx hb dX6_copy_29 (by decide) (fun c50 => ?_) (fun c50 => ?_)
      · replace hs := ifp c50 hs
        exact Ek77_8 _ _ _ hs hM (lv_sub hl [0] rfl)
      · replace hs := ifn c50 hs
        refine lv_aload_n hx hb dX6_copy_32 rfl (lv_at hl 0 rfl) ?_
        refine m_geti (v := .ref (ad 19)) X hK hM 19 q1495 rfl rfl rfl dX6_copy_33 ?_
        refine lv_iload_n hx hb dX6_copy_36 rfl (lv_at hl 2 rfl) ?_
        obtain ⟨v11, ev11, hs⟩ := hs
        refine m_iald X hK hM rfl ev11 dX6_copy_37 ?_
        refine lv_iconst (v := 2) hx hb dX6_copy_38 (by decide) ?_
        refine lv_icmp_eq (tgt := 77) hx hb dX6_copy_39 (by decide) (fun c49 => ?_) (fun c49 => ?_)
        · replace hs := ifp c49 hs
          exact Ek77_8 _ _ _ hs hM (lv_sub hl [0] rfl)
        · replace hs := ifn c49 hs
          refine lv_aload_n hx hb dX6_copy_42 rfl (lv_at hl 0 rfl) ?_
          refine m_geti (v := .ref (ad 19)) X hK hM 19 q1495 rfl rfl rfl dX6_copy_43 ?_
          refine lv_iload_n hx hb dX6_copy_46 rfl (lv_at hl 1 rfl) ?_
          obtain ⟨v12, ev12, hs⟩ := hs
          refine m_iald X hK hM rfl ev12 dX6_copy_47 ?_
          refine lv_iconst (v := 1) hx hb dX6_copy_48 (by decide) ?_
          obtain ⟨k84_12, hk84_12, hs⟩ := jn_ex hs
          have Ek84_12 : ∀ (H : Heap) (locs : List Loc) (ls : Array Slot), k84_12 → mI D dT A s.heap h ad S6 H locs → lv_has ls 7 [(0, .ref h), (1, .int a1), (2, .int a2), (3, .int a3), (4, .int a4), (5, .int a5)] → W p l e (mRm 1 21) s m args below meth c H locs 0 0 (MQ below (mQi D dT h ad K A) args s 0 0 A) (F0 m 84 ls []) := by
            intro H locs ls hs hM hl
            rw [hk84_12] at hs
            refine lv_aload_n hx hb dX6_copy_84 rfl (lv_at hl 0 rfl) ?_
            refine m_geti (v := .ref (ad 19)) X hK hM 19 q1495 rfl rfl rfl dX6_copy_85 ?_
            refine lv_iload_n hx hb dX6_copy_88 rfl (lv_at hl 1 rfl) ?_
            obtain ⟨v13, ev13, hs⟩ := hs
            refine m_iald X hK hM rfl ev13 dX6_copy_89 ?_
            obtain ⟨k102_13, hk102_13, hs⟩ := jn_ex hs
            have Ek102_13 : ∀ (H : Heap) (locs : List Loc) (ls : Array Slot), k102_13 → mI D dT A s.heap h ad S6 H locs → lv_has ls 7 [(0, .ref h)] → W p l e (mRm 1 21) s m args below meth c H locs 0 0 (MQ below (mQi D dT h ad K A) args s 0 0 A) (F0 m 102 ls []) := by
              intro H locs ls hs hM hl
              rw [hk102_13] at hs
              refine lv_aload_n hx hb dX6_copy_102 rfl (lv_at hl 0 rfl) ?_
              refine lv_bipush (v := (-3)) hx hb dX6_copy_103 (by decide) ?_
              refine m_calli (rest := []) (av := fun ad => [.int (-3)]) X hK hA hM (met_no l (-3) _ _ hs) iX6_no q1662 ⟨Nat.le_of_ble_eq_true rfl, Nat.le_of_ble_eq_true rfl⟩ rfl hl.1 rfl (Nat.le_of_ble_eq_true rfl) dX6_copy_105 (fun r15 S14 H locs hs hM => ?_)
              exact m_reti X hK hM hs dX6_copy_108
            refine lv_if_eq (tgt := 102) hx hb dX6_copy_90 (by decide) (fun c42 => ?_) (fun c42 => ?_)
            · replace hs := ifp c42 hs
              exact Ek102_13 _ _ _ hs hM (lv_sub hl [0] rfl)
            · replace hs := ifn c42 hs
              refine lv_aload_n hx hb dX6_copy_93 rfl (lv_at hl 0 rfl) ?_
              refine m_geti (v := .ref (ad 19)) X hK hM 19 q1495 rfl rfl rfl dX6_copy_94 ?_
              refine lv_iload_n hx hb dX6_copy_97 rfl (lv_at hl 2 rfl) ?_
              obtain ⟨v16, ev16, hs⟩ := hs
              refine m_iald X hK hM rfl ev16 dX6_copy_98 ?_
              refine lv_if_ne (tgt := 109) hx hb dX6_copy_99 (by decide) (fun c41 => ?_) (fun c41 => ?_)
              · replace hs := ifn c41 hs
                refine lv_iload hx hb dX6_copy_109 (lv_at hl 5 rfl) ?_
                refine lv_if_ge (tgt := 121) hx hb dX6_copy_111 (by decide) (fun c40 => ?_) (fun c40 => ?_)
                · replace hs := ifp c40 hs
                  refine lv_iload_n hx hb dX6_copy_121 rfl (lv_at hl 3 rfl) ?_
                  obtain ⟨k157_16, hk157_16, hs⟩ := jn_ex hs
                  have Ek157_16 : ∀ (H : Heap) (locs : List Loc) (ls : Array Slot), k157_16 → mI D dT A s.heap h ad S6 H locs → lv_has ls 7 [(0, .ref h)] → W p l e (mRm 1 21) s m args below meth c H locs 0 0 (MQ below (mQi D dT h ad K A) args s 0 0 A) (F0 m 157 ls []) := by
                    intro H locs ls hs hM hl
                    rw [hk157_16] at hs
                    refine lv_aload_n hx hb dX6_copy_157 rfl (lv_at hl 0 rfl) ?_
                    refine lv_bipush (v := (-5)) hx hb dX6_copy_158 (by decide) ?_
                    refine m_calli (rest := []) (av := fun ad => [.int (-5)]) X hK hA hM (met_no l (-5) _ _ hs) iX6_no q1662 ⟨Nat.le_of_ble_eq_true rfl, Nat.le_of_ble_eq_true rfl⟩ rfl hl.1 rfl (Nat.le_of_ble_eq_true rfl) dX6_copy_160 (fun r18 S17 H locs hs hM => ?_)
                    exact m_reti X hK hM hs dX6_copy_163
                  refine lv_if_lt (tgt := 157) hx hb dX6_copy_122 (by decide) (fun c37 => ?_) (fun c37 => ?_)
                  · replace hs := ifp c37 hs
                    exact Ek157_16 _ _ _ hs hM (lv_sub hl [0] rfl)
                  · replace hs := ifn c37 hs
                    refine lv_iload hx hb dX6_copy_125 (lv_at hl 4 rfl) ?_
                    refine lv_if_lt (tgt := 157) hx hb dX6_copy_127 (by decide) (fun c36 => ?_) (fun c36 => ?_)
                    · replace hs := ifp c36 hs
                      exact Ek157_16 _ _ _ hs hM (lv_sub hl [0] rfl)
                    · replace hs := ifn c36 hs
                      refine lv_iload_n hx hb dX6_copy_130 rfl (lv_at hl 3 rfl) ?_
                      refine lv_aload_n hx hb dX6_copy_131 rfl (lv_at hl 0 rfl) ?_
                      refine m_geti (v := .ref (ad 21)) X hK hM 21 q1497 rfl rfl rfl dX6_copy_132 ?_
                      refine lv_iload_n hx hb dX6_copy_135 rfl (lv_at hl 1 rfl) ?_
                      obtain ⟨v19, ev19, hs⟩ := hs
                      refine m_iald X hK hM rfl ev19 dX6_copy_136 ?_
                      refine lv_iload hx hb dX6_copy_137 (lv_at hl 5 rfl) ?_
                      refine lv_isub hx hb dX6_copy_139 ?_
                      refine lv_icmp_gt (tgt := 157) hx hb dX6_copy_140 (by decide) (fun c35 => ?_) (fun c35 => ?_)
                      · replace hs := ifp c35 hs
                        exact Ek157_16 _ _ _ hs hM (lv_sub hl [0] rfl)
                      · replace hs := ifn c35 hs
                        refine lv_iload hx hb dX6_copy_143 (lv_at hl 4 rfl) ?_
                        refine lv_aload_n hx hb dX6_copy_145 rfl (lv_at hl 0 rfl) ?_
                        refine m_geti (v := .ref (ad 21)) X hK hM 21 q1497 rfl rfl rfl dX6_copy_146 ?_
                        refine lv_iload_n hx hb dX6_copy_149 rfl (lv_at hl 2 rfl) ?_
                        obtain ⟨v20, ev20, hs⟩ := hs
                        refine m_iald X hK hM rfl ev20 dX6_copy_150 ?_
                        refine lv_iload hx hb dX6_copy_151 (lv_at hl 5 rfl) ?_
                        refine lv_isub hx hb dX6_copy_153 ?_
                        refine lv_icmp_le (tgt := 164) hx hb dX6_copy_154 (by decide) (fun c34 => ?_) (fun c34 => ?_)
                        · replace hs := ifp c34 hs
                          refine lv_iconst (v := 0) hx hb dX6_copy_164 (by decide) ?_
                          refine lv_istore (lv' := [(6, .int 0), (0, .ref h), (1, .int a1), (2, .int a2), (3, .int a3), (4, .int a4), (5, .int a5)]) hx hb dX6_copy_165 hl (by decide) rfl (fun ls hl => ?_)
                          obtain ⟨k202_21, hk202_21, hs⟩ := jn_ex hs
                          have Ek202_21 : ∀ (S21 : MS) (H : Heap) (locs : List Loc) (ls : Array Slot), k202_21 S21 → mI D dT A s.heap h ad S21 H locs → lv_has ls 7 [(0, .ref h), (2, .int a2), (4, .int a4), (5, .int a5)] → W p l e (mRm 1 21) s m args below meth c H locs 0 0 (MQ below (mQi D dT h ad K A) args s 0 0 A) (F0 m 202 ls []) := by
                            intro S21 H locs ls hs hM hl
                            rw [hk202_21] at hs
                            refine lv_iconst (v := 0) hx hb dX6_copy_202 (by decide) ?_
                            refine lv_istore (lv' := [(6, .int 0), (0, .ref h), (2, .int a2), (4, .int a4), (5, .int a5)]) hx hb dX6_copy_203 hl (by decide) rfl (fun ls hl => ?_)
                            have Lm_copy_l205 : ∀ (n205_24 : Nat) (x23 : Int32) (S24 : MS) (H : Heap) (locs : List Loc) (ls : Array Slot), m_copy_l205 K a2 a4 a5 n205_24 x23 S24 → mI D dT A s.heap h ad S24 H locs → lv_has ls 7 [(0, .ref h), (2, .int a2), (4, .int a4), (5, .int a5), (6, .int x23)] → W p l e (mRm 1 21) s m args below meth c H locs 0 0 (MQ below (mQi D dT h ad K A) args s 0 0 A) (F0 m 205 ls []) := by
                              intro n205_24
                              induction n205_24 with
                              | zero =>
                                intro x23 S24 H locs ls hs
                                exact False.elim hs
                              | succ n205_24 ihm_copy_l205 =>
                                intro x23 S24 H locs ls hs hM hl
                                rw [m_copy_l205_s] at hs
                                refine lv_iload hx hb dX6_copy_205 (lv_at hl 4 rfl) ?_
                                refine lv_iload hx hb dX6_copy_207 (lv_at hl 3 rfl) ?_
                                refine lv_icmp_ge (tgt := 241) hx hb dX6_copy_209 (by decide) (fun c27 => ?_) (fun c27 => ?_)
                                · replace hs := ifp c27 hs
                                  refine lv_iconst (v := 1) hx hb dX6_copy_241 (by decide) ?_
                                  exact m_reti X hK hM hs dX6_copy_242
                                · replace hs := ifn c27 hs
                                  refine lv_aload_n hx hb dX6_copy_212 rfl (lv_at hl 0 rfl) ?_
                                  refine m_geti (v := .ref (ad 23)) X hK hM 23 q1499 rfl rfl rfl dX6_copy_213 ?_
                                  refine lv_sipush (v := 160) hx hb dX6_copy_216 (by decide) ?_
                                  refine lv_iload_n hx hb dX6_copy_219 rfl (lv_at hl 1 rfl) ?_
                                  refine lv_imul hx hb dX6_copy_220 ?_
                                  refine lv_iload hx hb dX6_copy_221 (lv_at hl 2 rfl) ?_
                                  refine lv_iadd hx hb dX6_copy_223 ?_
                                  refine lv_iload hx hb dX6_copy_224 (lv_at hl 4 rfl) ?_
                                  refine lv_iadd hx hb dX6_copy_226 ?_
                                  refine lv_aload_n hx hb dX6_copy_227 rfl (lv_at hl 0 rfl) ?_
                                  refine m_geti (v := .ref (ad 24)) X hK hM 24 q1500 rfl rfl rfl dX6_copy_228 ?_
                                  refine lv_iload hx hb dX6_copy_231 (lv_at hl 4 rfl) ?_
                                  obtain ⟨v26, ev26, hs⟩ := hs
                                  refine m_lald X hK hM rfl ev26 dX6_copy_233 ?_
                                  obtain ⟨S27, eS27, hs⟩ := hs
                                  refine m_last X hK hM rfl eS27 dX6_copy_234 (fun H locs hM => ?_)
                                  refine lv_iinc (v := (x23 + 1)) (lv' := [(6, .int (x23 + 1)), (0, .ref h), (2, .int a2), (4, .int a4), (5, .int a5)]) hx hb dX6_copy_235 hl (k := 4) rfl (congrArg (fun z => x23 + z) (show Int32.ofInt (1) = 1 by decide)) (by decide) rfl (fun ls hl => ?_)
                                  refine lv_goto (tgt := 205) hx hb dX6_copy_238 (by decide) ?_
                                  exact ihm_copy_l205 _ _ _ _ _ hs hM (lv_sub hl [1, 2, 3, 4, 0] rfl)
                            exact Lm_copy_l205 NF _ _ _ _ _ hs hM (lv_sub hl [1, 2, 3, 4, 0] rfl)
                          have Lm_copy_l167 : ∀ (n167_30 : Nat) (x29 : Int32) (S30 : MS) (H : Heap) (locs : List Loc) (ls : Array Slot), m_copy_l167 a1 a3 a5 k202_21 n167_30 x29 S30 → mI D dT A s.heap h ad S30 H locs → lv_has ls 7 [(0, .ref h), (1, .int a1), (2, .int a2), (3, .int a3), (4, .int a4), (5, .int a5), (6, .int x29)] → W p l e (mRm 1 21) s m args below meth c H locs 0 0 (MQ below (mQi D dT h ad K A) args s 0 0 A) (F0 m 167 ls []) := by
                            intro n167_30
                            induction n167_30 with
                            | zero =>
                              intro x29 S30 H locs ls hs
                              exact False.elim hs
                            | succ n167_30 ihm_copy_l167 =>
                              intro x29 S30 H locs ls hs hM hl
                              rw [m_copy_l167_s] at hs
                              refine lv_iload hx hb dX6_copy_167 (lv_at hl 6 rfl) ?_
                              refine lv_iload hx hb dX6_copy_169 (lv_at hl 5 rfl) ?_
                              refine lv_icmp_ge (tgt := 202) hx hb dX6_copy_171 (by decide) (fun c33 => ?_) (fun c33 => ?_)
                              · replace hs := ifp c33 hs
                                exact Ek202_21 _ _ _ _ hs hM (lv_sub hl [0, 2, 4, 5] rfl)
                              · replace hs := ifn c33 hs
                                refine lv_aload_n hx hb dX6_copy_174 rfl (lv_at hl 0 rfl) ?_
                                refine m_geti (v := .ref (ad 24)) X hK hM 24 q1500 rfl rfl rfl dX6_copy_175 ?_
                                refine lv_iload hx hb dX6_copy_178 (lv_at hl 6 rfl) ?_
                                refine lv_aload_n hx hb dX6_copy_180 rfl (lv_at hl 0 rfl) ?_
                                refine m_geti (v := .ref (ad 23)) X hK hM 23 q1499 rfl rfl rfl dX6_copy_181 ?_
                                refine lv_sipush (v := 160) hx hb dX6_copy_184 (by decide) ?_
                                refine lv_iload_n hx hb dX6_copy_187 rfl (lv_at hl 1 rfl) ?_
                                refine lv_imul hx hb dX6_copy_188 ?_
                                refine lv_iload_n hx hb dX6_copy_189 rfl (lv_at hl 3 rfl) ?_
                                refine lv_iadd hx hb dX6_copy_190 ?_
                                refine lv_iload hx hb dX6_copy_191 (lv_at hl 6 rfl) ?_
                                refine lv_iadd hx hb dX6_copy_193 ?_
                                obtain ⟨v32, ev32, hs⟩ := hs
                                refine m_lald X hK hM rfl ev32 dX6_copy_194 ?_
                                obtain ⟨S33, eS33, hs⟩ := hs
                                refine m_last X hK hM rfl eS33 dX6_copy_195 (fun H locs hM => ?_)
                                refine lv_iinc (v := (x29 + 1)) (lv' := [(6, .int (x29 + 1)), (0, .ref h), (1, .int a1), (2, .int a2), (3, .int a3), (4, .int a4), (5, .int a5)]) hx hb dX6_copy_196 hl (k := 6) rfl (congrArg (fun z => x29 + z) (show Int32.ofInt (1) = 1 by decide)) (by decide) rfl (fun ls hl => ?_)
                                refine lv_goto (tgt := 167) hx hb dX6_copy_199 (by decide) ?_
                                exact ihm_copy_l167 _ _ _ _ _ hs hM (lv_sub hl [1, 2, 3, 4, 5, 6, 0] rfl)
                          exact Lm_copy_l167 NF _ _ _ _ _ hs hM (lv_sub hl [1, 2, 3, 4, 5, 6, 0] rfl)
                        · replace hs := ifn c34 hs
                          exact Ek157_16 _ _ _ hs hM (lv_sub hl [0] rfl)
                · replace hs := ifn c40 hs
                  refine lv_aload_n hx hb dX6_copy_114 rfl (lv_at hl 0 rfl) ?_
                  refine lv_bipush (v := (-4)) hx hb dX6_copy_115 (by decide) ?_
                  refine m_calli (rest := []) (av := fun ad => [.int (-4)]) X hK hA hM (met_no l (-4) _ _ hs) iX6_no q1662 ⟨Nat.le_of_ble_eq_true rfl, Nat.le_of_ble_eq_true rfl⟩ rfl hl.1 rfl (Nat.le_of_ble_eq_true rfl) dX6_copy_117 (fun r40 S39 H locs hs hM => ?_)
                  exact m_reti X hK hM hs dX6_copy_120
              · replace hs := ifp c41 hs
                exact Ek102_13 _ _ _ hs hM (lv_sub hl [0] rfl)
          refine lv_icmp_ne (tgt := 84) hx hb dX6_copy_49 (by decide) (fun c48 => ?_) (fun c48 => ?_)
          · replace hs := ifn c48 hs
            exact Ek84_12 _ _ _ hs hM hl
          · replace hs := ifp c48 hs
            refine lv_aload_n hx hb dX6_copy_52 rfl (lv_at hl 0 rfl) ?_
            refine m_geti (v := .ref (ad 19)) X hK hM 19 q1495 rfl rfl rfl dX6_copy_53 ?_
            refine lv_iload_n hx hb dX6_copy_56 rfl (lv_at hl 2 rfl) ?_
            obtain ⟨v44, ev44, hs⟩ := hs
            refine m_iald X hK hM rfl ev44 dX6_copy_57 ?_
            refine lv_iconst (v := 1) hx hb dX6_copy_58 (by decide) ?_
            refine lv_icmp_ne (tgt := 84) hx hb dX6_copy_59 (by decide) (fun c47 => ?_) (fun c47 => ?_)
            · replace hs := ifn c47 hs
              exact Ek84_12 _ _ _ hs hM hl
            · replace hs := ifp c47 hs
              refine lv_aload_n hx hb dX6_copy_62 rfl (lv_at hl 0 rfl) ?_
              refine m_geti (v := .ref (ad 20)) X hK hM 20 q1496 rfl rfl rfl dX6_copy_63 ?_
              refine lv_iload_n hx hb dX6_copy_66 rfl (lv_at hl 1 rfl) ?_
              obtain ⟨v45, ev45, hs⟩ := hs
              refine m_iald X hK hM rfl ev45 dX6_copy_67 ?_
              refine lv_aload_n hx hb dX6_copy_68 rfl (lv_at hl 0 rfl) ?_
              refine m_geti (v := .ref (ad 20)) X hK hM 20 q1496 rfl rfl rfl dX6_copy_69 ?_
              refine lv_iload_n hx hb dX6_copy_72 rfl (lv_at hl 2 rfl) ?_
              obtain ⟨v46, ev46, hs⟩ := hs
              refine m_iald X hK hM rfl ev46 dX6_copy_73 ?_
              refine lv_icmp_eq (tgt := 84) hx hb dX6_copy_74 (by decide) (fun c46 => ?_) (fun c46 => ?_)
              · replace hs := ifp c46 hs
                exact Ek84_12 _ _ _ hs hM hl
              · replace hs := ifn c46 hs
                exact Ek77_8 _ _ _ hs hM (lv_sub hl [0] rfl)
    · replace hs := ifp c51 hs
      exact Ek16_3 _ _ _ _ hs hM (lv_sub hl [0] rfl)
def m_element (a1 : Int32) (a2 : Int32) (S : MS) (K : Int64 → MS → Prop) : Prop := m_isShelf a1 S (fun r2 S1 => (if r2 = 0 then K 0 S1 else obd (mald S1 19 a1) (fun v3 => (if v3 = 1 then (if a2 < 0 then K 0 S1 else obd (mald S1 21 a1) (fun v4 => (if v4 ≤ a2 then K 0 S1 else obd (mlld S1 23 ((160 * a1) + a2)) (fun v5 => K v5 S1)))) else K 0 S1))))
theorem iX6_element : mInf yX6_element cX6_element 3 (some .long) 2 := ⟨q1675, q1676, q1677, by decide +kernel⟩
set_option maxHeartbeats 4000000 in
theorem met_element (l : Launch) (a1 : Int32) (a2 : Int32) (S : MS) (K : Int64 → MS → Prop) (hs : m_element a1 a2 S K) : mMetl l yX6_element cX6_element 3 1 21 S (fun ad => [.int a1, .int a2]) K := by
  intro D dT h ad sz
  refine mEnter (Qc := mQl D dT h ad K) (by decide) rfl (by rfl) ?_
  intro p e s m args below meth c A ls X hK hA hM hl
  have hx := X.1
  have hb := X.2.1
  have hts := X.2.2.2.2.1
  have hown := X.2.2.2.2.2.1
  have hl : lv_has ls 3 [(0, .ref h), (1, .int a1), (2, .int a2)] := hl
  unfold m_element at hs
  refine lv_aload_n hx hb dX6_element_0 rfl (lv_at hl 0 rfl) ?_
  refine lv_iload_n hx hb dX6_element_1 rfl (lv_at hl 1 rfl) ?_
  refine m_callz (rest := []) (av := fun ad => [.int a1]) X hK hA hM (met_isShelf l a1 _ _ hs) iX6_isShelf q1658 ⟨Nat.le_of_ble_eq_true rfl, Nat.le_of_ble_eq_true rfl⟩ rfl hl.1 rfl (Nat.le_of_ble_eq_true rfl) dX6_element_2 (fun r2 S1 H locs br2 hs hM => ?_)
  refine lv_if_eq (tgt := 47) hx hb dX6_element_5 (by decide) (fun c8 => ?_) (fun c8 => ?_)
  · replace hs := ifp c8 hs
    refine lv_lconst (v := 0) hx hb dX6_element_47 (by decide) ?_
    exact m_retl X hK hM hs dX6_element_48
  · replace hs := ifn c8 hs
    refine lv_aload_n hx hb dX6_element_8 rfl (lv_at hl 0 rfl) ?_
    refine m_geti (v := .ref (ad 19)) X hK hM 19 q1495 rfl rfl rfl dX6_element_9 ?_
    refine lv_iload_n hx hb dX6_element_12 rfl (lv_at hl 1 rfl) ?_
    obtain ⟨v3, ev3, hs⟩ := hs
    refine m_iald X hK hM rfl ev3 dX6_element_13 ?_
    refine lv_iconst (v := 1) hx hb dX6_element_14 (by decide) ?_
    refine lv_icmp_ne (tgt := 47) hx hb dX6_element_15 (by decide) (fun c7 => ?_) (fun c7 => ?_)
    · replace hs := ifn c7 hs
      refine lv_lconst (v := 0) hx hb dX6_element_47 (by decide) ?_
      exact m_retl X hK hM hs dX6_element_48
    · replace hs := ifp c7 hs
      refine lv_iload_n hx hb dX6_element_18 rfl (lv_at hl 2 rfl) ?_
      refine lv_if_lt (tgt := 47) hx hb dX6_element_19 (by decide) (fun c6 => ?_) (fun c6 => ?_)
      · replace hs := ifp c6 hs
        refine lv_lconst (v := 0) hx hb dX6_element_47 (by decide) ?_
        exact m_retl X hK hM hs dX6_element_48
      · replace hs := ifn c6 hs
        refine lv_iload_n hx hb dX6_element_22 rfl (lv_at hl 2 rfl) ?_
        refine lv_aload_n hx hb dX6_element_23 rfl (lv_at hl 0 rfl) ?_
        refine m_geti (v := .ref (ad 21)) X hK hM 21 q1497 rfl rfl rfl dX6_element_24 ?_
        refine lv_iload_n hx hb dX6_element_27 rfl (lv_at hl 1 rfl) ?_
        obtain ⟨v4, ev4, hs⟩ := hs
        refine m_iald X hK hM rfl ev4 dX6_element_28 ?_
        refine lv_icmp_ge (tgt := 47) hx hb dX6_element_29 (by decide) (fun c5 => ?_) (fun c5 => ?_)
        · replace hs := ifp c5 hs
          refine lv_lconst (v := 0) hx hb dX6_element_47 (by decide) ?_
          exact m_retl X hK hM hs dX6_element_48
        · replace hs := ifn c5 hs
          refine lv_aload_n hx hb dX6_element_32 rfl (lv_at hl 0 rfl) ?_
          refine m_geti (v := .ref (ad 23)) X hK hM 23 q1499 rfl rfl rfl dX6_element_33 ?_
          refine lv_sipush (v := 160) hx hb dX6_element_36 (by decide) ?_
          refine lv_iload_n hx hb dX6_element_39 rfl (lv_at hl 1 rfl) ?_
          refine lv_imul hx hb dX6_element_40 ?_
          refine lv_iload_n hx hb dX6_element_41 rfl (lv_at hl 2 rfl) ?_
          refine lv_iadd hx hb dX6_element_42 ?_
          obtain ⟨v5, ev5, hs⟩ := hs
          refine m_lald X hK hM rfl ev5 dX6_element_43 ?_
          refine lv_goto (tgt := 48) hx hb dX6_element_44 (by decide) ?_
          exact m_retl X hK hM hs dX6_element_48
def m_isChild (a1 : Int32) (S : MS) (K : Int32 → MS → Prop) : Prop := (if a1 < 0 then K 0 S else (if (S.1 0) ≤ a1 then K 0 S else K 1 S))
theorem iX6_isChild : mInf yX6_isChild cX6_isChild 2 (some .boolean) 1 := ⟨q1684, qs41, q1685, by decide +kernel⟩
set_option maxHeartbeats 4000000 in
theorem met_isChild (l : Launch) (a1 : Int32) (S : MS) (K : Int32 → MS → Prop) (hs : m_isChild a1 S K) : mMetz l yX6_isChild cX6_isChild 2 0 0 S (fun ad => [.int a1]) K := by
  intro D dT h ad sz
  refine mEnter (Qc := mQz D dT h ad K) (by decide) rfl (by rfl) ?_
  intro p e s m args below meth c A ls X hK hA hM hl
  have hx := X.1
  have hb := X.2.1
  have hts := X.2.2.2.2.1
  have hown := X.2.2.2.2.2.1
  have hl : lv_has ls 2 [(0, .ref h), (1, .int a1)] := hl
  unfold m_isChild at hs
  refine lv_iload_n hx hb dX6_isChild_0 rfl (lv_at hl 1 rfl) ?_
  refine lv_if_lt (tgt := 16) hx hb dX6_isChild_1 (by decide) (fun c1 => ?_) (fun c1 => ?_)
  · replace hs := ifp c1 hs
    refine lv_iconst (v := 0) hx hb dX6_isChild_16 (by decide) ?_
    exact m_retz X hK hM isB0 hs dX6_isChild_17
  · replace hs := ifn c1 hs
    refine lv_iload_n hx hb dX6_isChild_4 rfl (lv_at hl 1 rfl) ?_
    refine lv_aload_n hx hb dX6_isChild_5 rfl (lv_at hl 0 rfl) ?_
    refine m_geti (v := .int (S.1 0)) X hK hM 0 q1476 rfl rfl rfl dX6_isChild_6 ?_
    refine lv_icmp_ge (tgt := 16) hx hb dX6_isChild_9 (by decide) (fun c0 => ?_) (fun c0 => ?_)
    · replace hs := ifp c0 hs
      refine lv_iconst (v := 0) hx hb dX6_isChild_16 (by decide) ?_
      exact m_retz X hK hM isB0 hs dX6_isChild_17
    · replace hs := ifn c0 hs
      refine lv_iconst (v := 1) hx hb dX6_isChild_12 (by decide) ?_
      refine lv_goto (tgt := 17) hx hb dX6_isChild_13 (by decide) ?_
      exact m_retz X hK hM isB1 hs dX6_isChild_17
def m_show (a1 : Int32) (a2 : Int32) (S : MS) (K : Int32 → MS → Prop) : Prop := m_isShelf a1 S (fun r2 S1 => jn (fun (S3 : MS) => m_no (-1) S3 (fun r5 S4 => K r5 S4)) (fun k21_3 => (if r2 = 0 then k21_3 S1 else jn (fun (S6 : MS) => jn (fun (v7 : Int32) => obd (mast S6 19 a1 v7) (fun S8 => obd (mast S8 22 a1 a2) (fun S9 => (if a2 = (-1) then K 0 S9 else K 1 S9)))) (fun k42_7 => (if a2 = (-1) then k42_7 0 else k42_7 2))) (fun k27_6 => (if a2 = (-1) then k27_6 S1 else m_isChild a2 S1 (fun r13 S12 => (if r13 = 0 then k21_3 S12 else k27_6 S12)))))))
theorem iX6_show : mInf yX6_show cX6_show 3 (some .int) 2 := ⟨q1679, q1680, q1681, by decide +kernel⟩
set_option maxHeartbeats 4000000 in
theorem met_show (l : Launch) (a1 : Int32) (a2 : Int32) (S : MS) (K : Int32 → MS → Prop) (hs : m_show a1 a2 S K) : mMeti l yX6_show cX6_show 3 1 21 S (fun ad => [.int a1, .int a2]) K := by
  intro D dT h ad sz
  refine mEnter (Qc := mQi D dT h ad K) (by decide) rfl (by rfl) ?_
  intro p e s m args below meth c A ls X hK hA hM hl
  have hx := X.1
  have hb := X.2.1
  have hts := X.2.2.2.2.1
  have hown := X.2.2.2.2.2.1
  have hl : lv_has ls 3 [(0, .ref h), (1, .int a1), (2, .int a2)] := hl
  unfold m_show at hs
  refine lv_aload_n hx hb dX6_show_0 rfl (lv_at hl 0 rfl) ?_
  refine lv_iload_n hx hb dX6_show_1 rfl (lv_at hl 1 rfl) ?_
  refine m_callz (rest := []) (av := fun ad => [.int a1]) X hK hA hM (met_isShelf l a1 _ _ hs) iX6_isShelf q1658 ⟨Nat.le_of_ble_eq_true rfl, Nat.le_of_ble_eq_true rfl⟩ rfl hl.1 rfl (Nat.le_of_ble_eq_true rfl) dX6_show_2 (fun r2 S1 H locs br2 hs hM => ?_)
  obtain ⟨k21_3, hk21_3, hs⟩ := jn_ex hs
  have Ek21_3 : ∀ (S3 : MS) (H : Heap) (locs : List Loc) (ls : Array Slot), k21_3 S3 → mI D dT A s.heap h ad S3 H locs → lv_has ls 3 [(0, .ref h)] → W p l e (mRm 1 21) s m args below meth c H locs 0 0 (MQ below (mQi D dT h ad K A) args s 0 0 A) (F0 m 21 ls []) := by
    intro S3 H locs ls hs hM hl
    rw [hk21_3] at hs
    refine lv_aload_n hx hb dX6_show_21 rfl (lv_at hl 0 rfl) ?_
    refine lv_iconst (v := (-1)) hx hb dX6_show_22 (by decide) ?_
    refine m_calli (rest := []) (av := fun ad => [.int (-1)]) X hK hA hM (met_no l (-1) _ _ hs) iX6_no q1662 ⟨Nat.le_of_ble_eq_true rfl, Nat.le_of_ble_eq_true rfl⟩ rfl hl.1 rfl (Nat.le_of_ble_eq_true rfl) dX6_show_23 (fun r5 S4 H locs hs hM => ?_)
    exact m_reti X hK hM hs dX6_show_26
  refine lv_if_eq (tgt := 21) hx hb dX6_show_5 (by decide) (fun c15 => ?_) (fun c15 => ?_)
  · replace hs := ifp c15 hs
    exact Ek21_3 _ _ _ _ hs hM (lv_sub hl [0] rfl)
  · replace hs := ifn c15 hs
    refine lv_iload_n hx hb dX6_show_8 rfl (lv_at hl 2 rfl) ?_
    refine lv_iconst (v := (-1)) hx hb dX6_show_9 (by decide) ?_
    obtain ⟨k27_6, hk27_6, hs⟩ := jn_ex hs
    have Ek27_6 : ∀ (S6 : MS) (H : Heap) (locs : List Loc) (ls : Array Slot), k27_6 S6 → mI D dT A s.heap h ad S6 H locs → lv_has ls 3 [(0, .ref h), (1, .int a1), (2, .int a2)] → W p l e (mRm 1 21) s m args below meth c H locs 0 0 (MQ below (mQi D dT h ad K A) args s 0 0 A) (F0 m 27 ls []) := by
      intro S6 H locs ls hs hM hl
      rw [hk27_6] at hs
      refine lv_aload_n hx hb dX6_show_27 rfl (lv_at hl 0 rfl) ?_
      refine m_geti (v := .ref (ad 19)) X hK hM 19 q1495 rfl rfl rfl dX6_show_28 ?_
      refine lv_iload_n hx hb dX6_show_31 rfl (lv_at hl 1 rfl) ?_
      refine lv_iload_n hx hb dX6_show_32 rfl (lv_at hl 2 rfl) ?_
      refine lv_iconst (v := (-1)) hx hb dX6_show_33 (by decide) ?_
      obtain ⟨k42_7, hk42_7, hs⟩ := jn_ex hs
      have Ek42_7 : ∀ (v7 : Int32) (H : Heap) (locs : List Loc) (ls : Array Slot), k42_7 v7 → mI D dT A s.heap h ad S6 H locs → lv_has ls 3 [(0, .ref h), (1, .int a1), (2, .int a2)] → W p l e (mRm 1 21) s m args below meth c H locs 0 0 (MQ below (mQi D dT h ad K A) args s 0 0 A) (F0 m 42 ls [.int v7, .int a1, .ref (ad 19)]) := by
        intro v7 H locs ls hs hM hl
        rw [hk42_7] at hs
        obtain ⟨S8, eS8, hs⟩ := hs
        refine m_iast X hK hM rfl eS8 dX6_show_42 (fun H locs hM => ?_)
        refine lv_aload_n hx hb dX6_show_43 rfl (lv_at hl 0 rfl) ?_
        refine m_geti (v := .ref (ad 22)) X hK hM 22 q1498 rfl rfl rfl dX6_show_44 ?_
        refine lv_iload_n hx hb dX6_show_47 rfl (lv_at hl 1 rfl) ?_
        refine lv_iload_n hx hb dX6_show_48 rfl (lv_at hl 2 rfl) ?_
        obtain ⟨S9, eS9, hs⟩ := hs
        refine m_iast X hK hM rfl eS9 dX6_show_49 (fun H locs hM => ?_)
        refine lv_iload_n hx hb dX6_show_50 rfl (lv_at hl 2 rfl) ?_
        refine lv_iconst (v := (-1)) hx hb dX6_show_51 (by decide) ?_
        refine lv_icmp_ne (tgt := 59) hx hb dX6_show_52 (by decide) (fun c9 => ?_) (fun c9 => ?_)
        · replace hs := ifn c9 hs
          refine lv_iconst (v := 1) hx hb dX6_show_59 (by decide) ?_
          exact m_reti X hK hM hs dX6_show_60
        · replace hs := ifp c9 hs
          refine lv_iconst (v := 0) hx hb dX6_show_55 (by decide) ?_
          refine lv_goto (tgt := 60) hx hb dX6_show_56 (by decide) ?_
          exact m_reti X hK hM hs dX6_show_60
      refine lv_icmp_ne (tgt := 41) hx hb dX6_show_34 (by decide) (fun c10 => ?_) (fun c10 => ?_)
      · replace hs := ifn c10 hs
        refine lv_iconst (v := 2) hx hb dX6_show_41 (by decide) ?_
        exact Ek42_7 _ _ _ _ hs hM hl
      · replace hs := ifp c10 hs
        refine lv_iconst (v := 0) hx hb dX6_show_37 (by decide) ?_
        refine lv_goto (tgt := 42) hx hb dX6_show_38 (by decide) ?_
        exact Ek42_7 _ _ _ _ hs hM hl
    refine lv_icmp_eq (tgt := 27) hx hb dX6_show_10 (by decide) (fun c14 => ?_) (fun c14 => ?_)
    · replace hs := ifp c14 hs
      exact Ek27_6 _ _ _ _ hs hM hl
    · replace hs := ifn c14 hs
      refine lv_aload_n hx hb dX6_show_13 rfl (lv_at hl 0 rfl) ?_
      refine lv_iload_n hx hb dX6_show_14 rfl (lv_at hl 2 rfl) ?_
      refine m_callz (rest := []) (av := fun ad => [.int a2]) X hK hA hM (met_isChild l a2 _ _ hs) iX6_isChild q1682 ⟨Nat.le_of_ble_eq_true rfl, Nat.le_of_ble_eq_true rfl⟩ rfl hl.1 rfl (Nat.le_of_ble_eq_true rfl) dX6_show_15 (fun r13 S12 H locs br13 hs hM => ?_)
      refine lv_if_ne (tgt := 27) hx hb dX6_show_18 (by decide) (fun c13 => ?_) (fun c13 => ?_)
      · replace hs := ifn c13 hs
        exact Ek27_6 _ _ _ _ hs hM hl
      · replace hs := ifp c13 hs
        exact Ek21_3 _ _ _ _ hs hM (lv_sub hl [0] rfl)
def m_holds (a1 : Int32) (S : MS) (K : Int32 → MS → Prop) : Prop := m_isShelf a1 S (fun r2 S1 => (if r2 = 0 then K (-1) S1 else obd (mald S1 19 a1) (fun v3 => (if v3 = 0 then K (-1) S1 else obd (mald S1 19 a1) (fun v4 => (if v4 = 1 then obd (mald S1 20 a1) (fun v6 => K (100 + v6) S1) else obd (mald S1 22 a1) (fun v5 => K v5 S1)))))))
theorem iX6_holds : mInf yX6_holds cX6_holds 2 (some .int) 1 := ⟨q1687, q1688, q1689, by decide +kernel⟩
set_option maxHeartbeats 4000000 in
theorem met_holds (l : Launch) (a1 : Int32) (S : MS) (K : Int32 → MS → Prop) (hs : m_holds a1 S K) : mMeti l yX6_holds cX6_holds 2 1 21 S (fun ad => [.int a1]) K := by
  intro D dT h ad sz
  refine mEnter (Qc := mQi D dT h ad K) (by decide) rfl (by rfl) ?_
  intro p e s m args below meth c A ls X hK hA hM hl
  have hx := X.1
  have hb := X.2.1
  have hts := X.2.2.2.2.1
  have hown := X.2.2.2.2.2.1
  have hl : lv_has ls 2 [(0, .ref h), (1, .int a1)] := hl
  unfold m_holds at hs
  refine lv_aload_n hx hb dX6_holds_0 rfl (lv_at hl 0 rfl) ?_
  refine lv_iload_n hx hb dX6_holds_1 rfl (lv_at hl 1 rfl) ?_
  refine m_callz (rest := []) (av := fun ad => [.int a1]) X hK hA hM (met_isShelf l a1 _ _ hs) iX6_isShelf q1658 ⟨Nat.le_of_ble_eq_true rfl, Nat.le_of_ble_eq_true rfl⟩ rfl hl.1 rfl (Nat.le_of_ble_eq_true rfl) dX6_holds_2 (fun r2 S1 H locs br2 hs hM => ?_)
  refine lv_if_eq (tgt := 17) hx hb dX6_holds_5 (by decide) (fun c8 => ?_) (fun c8 => ?_)
  · replace hs := ifp c8 hs
    refine lv_iconst (v := (-1)) hx hb dX6_holds_17 (by decide) ?_
    exact m_reti X hK hM hs dX6_holds_18
  · replace hs := ifn c8 hs
    refine lv_aload_n hx hb dX6_holds_8 rfl (lv_at hl 0 rfl) ?_
    refine m_geti (v := .ref (ad 19)) X hK hM 19 q1495 rfl rfl rfl dX6_holds_9 ?_
    refine lv_iload_n hx hb dX6_holds_12 rfl (lv_at hl 1 rfl) ?_
    obtain ⟨v3, ev3, hs⟩ := hs
    refine m_iald X hK hM rfl ev3 dX6_holds_13 ?_
    refine lv_if_ne (tgt := 19) hx hb dX6_holds_14 (by decide) (fun c7 => ?_) (fun c7 => ?_)
    · replace hs := ifn c7 hs
      refine lv_aload_n hx hb dX6_holds_19 rfl (lv_at hl 0 rfl) ?_
      refine m_geti (v := .ref (ad 19)) X hK hM 19 q1495 rfl rfl rfl dX6_holds_20 ?_
      refine lv_iload_n hx hb dX6_holds_23 rfl (lv_at hl 1 rfl) ?_
      obtain ⟨v4, ev4, hs⟩ := hs
      refine m_iald X hK hM rfl ev4 dX6_holds_24 ?_
      refine lv_iconst (v := 1) hx hb dX6_holds_25 (by decide) ?_
      refine lv_icmp_ne (tgt := 41) hx hb dX6_holds_26 (by decide) (fun c6 => ?_) (fun c6 => ?_)
      · replace hs := ifn c6 hs
        refine lv_aload_n hx hb dX6_holds_41 rfl (lv_at hl 0 rfl) ?_
        refine m_geti (v := .ref (ad 22)) X hK hM 22 q1498 rfl rfl rfl dX6_holds_42 ?_
        refine lv_iload_n hx hb dX6_holds_45 rfl (lv_at hl 1 rfl) ?_
        obtain ⟨v5, ev5, hs⟩ := hs
        refine m_iald X hK hM rfl ev5 dX6_holds_46 ?_
        exact m_reti X hK hM hs dX6_holds_47
      · replace hs := ifp c6 hs
        refine lv_bipush (v := 100) hx hb dX6_holds_29 (by decide) ?_
        refine lv_aload_n hx hb dX6_holds_31 rfl (lv_at hl 0 rfl) ?_
        refine m_geti (v := .ref (ad 20)) X hK hM 20 q1496 rfl rfl rfl dX6_holds_32 ?_
        refine lv_iload_n hx hb dX6_holds_35 rfl (lv_at hl 1 rfl) ?_
        obtain ⟨v6, ev6, hs⟩ := hs
        refine m_iald X hK hM rfl ev6 dX6_holds_36 ?_
        refine lv_iadd hx hb dX6_holds_37 ?_
        refine lv_goto (tgt := 47) hx hb dX6_holds_38 (by decide) ?_
        exact m_reti X hK hM hs dX6_holds_47
    · replace hs := ifp c7 hs
      refine lv_iconst (v := (-1)) hx hb dX6_holds_17 (by decide) ?_
      exact m_reti X hK hM hs dX6_holds_18
def m_puff (S : MS) (K : Int32 → MS → Prop) : Prop := (if (S.1 35) = 1 then K 1 S else if (S.1 35) = 2 then K 4 S else if (S.1 35) = 3 then K 0 S else if (S.1 35) = 4 then K 3 S else if (S.1 35) = 5 then K 5 S else K 2 S)
theorem iX6_puff : mInf yX6_puff cX6_puff 1 (some .int) 0 := ⟨q1708, qs45, q1709, by decide +kernel⟩
set_option maxHeartbeats 4000000 in
theorem met_puff (l : Launch)  (S : MS) (K : Int32 → MS → Prop) (hs : m_puff  S K) : mMeti l yX6_puff cX6_puff 1 0 0 S (fun ad => []) K := by
  intro D dT h ad sz
  refine mEnter (Qc := mQi D dT h ad K) (by decide) rfl (by rfl) ?_
  intro p e s m args below meth c A ls X hK hA hM hl
  have hx := X.1
  have hb := X.2.1
  have hts := X.2.2.2.2.1
  have hown := X.2.2.2.2.2.1
  have hl : lv_has ls 1 [(0, .ref h)] := hl
  unfold m_puff at hs
  refine lv_aload_n hx hb dX6_puff_0 rfl (lv_at hl 0 rfl) ?_
  refine m_geti (v := .int (S.1 35)) X hK hM 35 q1511 rfl rfl rfl dX6_puff_1 ?_
  by_cases c0_0 : (S.1 35) = 1
  · replace hs := ifp c0_0 hs
    refine lv_tableIn (tgt := 40) hx hb dX6_puff_4 (by rw [c0_0]; decide) (by rw [c0_0]; decide) (by rw [c0_0]; rfl) (by decide) ?_
    refine lv_iconst (v := 1) hx hb dX6_puff_40 (by decide) ?_
    exact m_reti X hK hM hs dX6_puff_41
  · replace hs := ifn c0_0 hs
    by_cases c0_1 : (S.1 35) = 2
    · replace hs := ifp c0_1 hs
      refine lv_tableIn (tgt := 42) hx hb dX6_puff_4 (by rw [c0_1]; decide) (by rw [c0_1]; decide) (by rw [c0_1]; rfl) (by decide) ?_
      refine lv_iconst (v := 4) hx hb dX6_puff_42 (by decide) ?_
      exact m_reti X hK hM hs dX6_puff_43
    · replace hs := ifn c0_1 hs
      by_cases c0_2 : (S.1 35) = 3
      · replace hs := ifp c0_2 hs
        refine lv_tableIn (tgt := 44) hx hb dX6_puff_4 (by rw [c0_2]; decide) (by rw [c0_2]; decide) (by rw [c0_2]; rfl) (by decide) ?_
        refine lv_iconst (v := 0) hx hb dX6_puff_44 (by decide) ?_
        exact m_reti X hK hM hs dX6_puff_45
      · replace hs := ifn c0_2 hs
        by_cases c0_3 : (S.1 35) = 4
        · replace hs := ifp c0_3 hs
          refine lv_tableIn (tgt := 46) hx hb dX6_puff_4 (by rw [c0_3]; decide) (by rw [c0_3]; decide) (by rw [c0_3]; rfl) (by decide) ?_
          refine lv_iconst (v := 3) hx hb dX6_puff_46 (by decide) ?_
          exact m_reti X hK hM hs dX6_puff_47
        · replace hs := ifn c0_3 hs
          by_cases c0_4 : (S.1 35) = 5
          · replace hs := ifp c0_4 hs
            refine lv_tableIn (tgt := 48) hx hb dX6_puff_4 (by rw [c0_4]; decide) (by rw [c0_4]; decide) (by rw [c0_4]; rfl) (by decide) ?_
            refine lv_iconst (v := 5) hx hb dX6_puff_48 (by decide) ?_
            exact m_reti X hK hM hs dX6_puff_49
          · replace hs := ifn c0_4 hs
            refine lv_tableOut (tgt := 50) hx hb dX6_puff_4 (sw_out (fun k h1 h2 => by
              have h3 : k = 1 ∨ k = 2 ∨ k = 3 ∨ k = 4 ∨ k = 5 := by omega
              rcases h3 with rfl | rfl | rfl | rfl | rfl
              · exact lv_neT c0_0 rfl
              · exact lv_neT c0_1 rfl
              · exact lv_neT c0_2 rfl
              · exact lv_neT c0_3 rfl
              · exact lv_neT c0_4 rfl
              )) (by decide) ?_
            refine lv_iconst (v := 2) hx hb dX6_puff_50 (by decide) ?_
            exact m_reti X hK hM hs dX6_puff_51
