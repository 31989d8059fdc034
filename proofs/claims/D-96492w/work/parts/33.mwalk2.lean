set_option maxRecDepth 100000
def m_addsChild (a1 : Int32) (a2 : Int32) (a3 : Int32) (S : MS) (K : Int32 → MS → Prop) : Prop := obd (mast S 11 (S.1 0) a1) (fun S1 => obd (mast S1 12 (S1.1 0) a2) (fun S2 => obd (mast S2 13 (S2.1 0) a3) (fun S3 => jn (fun (v4 : Int32) => obd (mast S3 14 (S3.1 0) v4) (fun S5 => obd (mast S5 15 (S5.1 0) 0) (fun S6 => obd (mast S6 16 (S6.1 0) 0) (fun S7 => K (S7.1 0) (mset S7 0 ((S7.1 0) + 1)))))) (fun k57_4 => (if (S3.1 1) ≤ (S3.1 0) then k57_4 0 else k57_4 (S3.1 0))))))
theorem iX6_addsChild : mInf yX6_addsChild cX6_addsChild 4 (some .int) 3 := ⟨q1728, qs49, q1729, by decide +kernel⟩
set_option maxHeartbeats 4000000 in
theorem met_addsChild (l : Launch) (a1 : Int32) (a2 : Int32) (a3 : Int32) (S : MS) (K : Int32 → MS → Prop) (hs : m_addsChild a1 a2 a3 S K) : mMeti l yX6_addsChild cX6_addsChild 4 0 0 S (fun ad => [.int a1, .int a2, .int a3]) K := by
  intro D dT h ad sz
  refine mEnter (Qc := mQi D dT h ad K) (by decide) rfl (by rfl) ?_
  intro p e s m args below meth c A ls X hK hA hM hl
  have hx := X.1
  have hb := X.2.1
  have hts := X.2.2.2.2.1
  have hown := X.2.2.2.2.2.1
  have hl : lv_has ls 4 [(0, .ref h), (1, .int a1), (2, .int a2), (3, .int a3)] := hl
  unfold m_addsChild at hs
  refine lv_aload_n hx hb dX6_addsChild_0 rfl (lv_at hl 0 rfl) ?_
  refine m_geti (v := .ref (ad 11)) X hK hM 11 q1487 rfl rfl rfl dX6_addsChild_1 ?_
  refine lv_aload_n hx hb dX6_addsChild_4 rfl (lv_at hl 0 rfl) ?_
  refine m_geti (v := .int (S.1 0)) X hK hM 0 q1476 rfl rfl rfl dX6_addsChild_5 ?_
  refine lv_iload_n hx hb dX6_addsChild_8 rfl (lv_at hl 1 rfl) ?_
  obtain ⟨S1, eS1, hs⟩ := hs
  refine m_iast X hK hM rfl eS1 dX6_addsChild_9 (fun H locs hM => ?_)
  refine lv_aload_n hx hb dX6_addsChild_10 rfl (lv_at hl 0 rfl) ?_
  refine m_geti (v := .ref (ad 12)) X hK hM 12 q1488 rfl rfl rfl dX6_addsChild_11 ?_
  refine lv_aload_n hx hb dX6_addsChild_14 rfl (lv_at hl 0 rfl) ?_
  refine m_geti (v := .int (S1.1 0)) X hK hM 0 q1476 rfl rfl rfl dX6_addsChild_15 ?_
  refine lv_iload_n hx hb dX6_addsChild_18 rfl (lv_at hl 2 rfl) ?_
  obtain ⟨S2, eS2, hs⟩ := hs
  refine m_iast X hK hM rfl eS2 dX6_addsChild_19 (fun H locs hM => ?_)
  refine lv_aload_n hx hb dX6_addsChild_20 rfl (lv_at hl 0 rfl) ?_
  refine m_geti (v := .ref (ad 13)) X hK hM 13 q1489 rfl rfl rfl dX6_addsChild_21 ?_
  refine lv_aload_n hx hb dX6_addsChild_24 rfl (lv_at hl 0 rfl) ?_
  refine m_geti (v := .int (S2.1 0)) X hK hM 0 q1476 rfl rfl rfl dX6_addsChild_25 ?_
  refine lv_iload_n hx hb dX6_addsChild_28 rfl (lv_at hl 3 rfl) ?_
  obtain ⟨S3, eS3, hs⟩ := hs
  refine m_iast X hK hM rfl eS3 dX6_addsChild_29 (fun H locs hM => ?_)
  refine lv_aload_n hx hb dX6_addsChild_30 rfl (lv_at hl 0 rfl) ?_
  refine m_geti (v := .ref (ad 14)) X hK hM 14 q1490 rfl rfl rfl dX6_addsChild_31 ?_
  refine lv_aload_n hx hb dX6_addsChild_34 rfl (lv_at hl 0 rfl) ?_
  refine m_geti (v := .int (S3.1 0)) X hK hM 0 q1476 rfl rfl rfl dX6_addsChild_35 ?_
  refine lv_aload_n hx hb dX6_addsChild_38 rfl (lv_at hl 0 rfl) ?_
  refine m_geti (v := .int (S3.1 0)) X hK hM 0 q1476 rfl rfl rfl dX6_addsChild_39 ?_
  refine lv_aload_n hx hb dX6_addsChild_42 rfl (lv_at hl 0 rfl) ?_
  refine m_geti (v := .int (S3.1 1)) X hK hM 1 q1477 rfl rfl rfl dX6_addsChild_43 ?_
  obtain ⟨k57_4, hk57_4, hs⟩ := jn_ex hs
  have Ek57_4 : ∀ (v4 : Int32) (H : Heap) (locs : List Loc) (ls : Array Slot), k57_4 v4 → mI D dT A s.heap h ad S3 H locs → lv_has ls 4 [(0, .ref h)] → W p l e (mRm 0 0) s m args below meth c H locs 0 0 (MQ below (mQi D dT h ad K A) args s 0 0 A) (F0 m 57 ls [.int v4, .int (S3.1 0), .ref (ad 14)]) := by
    intro v4 H locs ls hs hM hl
    rw [hk57_4] at hs
    obtain ⟨S5, eS5, hs⟩ := hs
    refine m_iast X hK hM rfl eS5 dX6_addsChild_57 (fun H locs hM => ?_)
    refine lv_aload_n hx hb dX6_addsChild_58 rfl (lv_at hl 0 rfl) ?_
    refine m_geti (v := .ref (ad 15)) X hK hM 15 q1491 rfl rfl rfl dX6_addsChild_59 ?_
    refine lv_aload_n hx hb dX6_addsChild_62 rfl (lv_at hl 0 rfl) ?_
    refine m_geti (v := .int (S5.1 0)) X hK hM 0 q1476 rfl rfl rfl dX6_addsChild_63 ?_
    refine lv_iconst (v := 0) hx hb dX6_addsChild_66 (by decide) ?_
    obtain ⟨S6, eS6, hs⟩ := hs
    refine m_iast X hK hM rfl eS6 dX6_addsChild_67 (fun H locs hM => ?_)
    refine lv_aload_n hx hb dX6_addsChild_68 rfl (lv_at hl 0 rfl) ?_
    refine m_geti (v := .ref (ad 16)) X hK hM 16 q1492 rfl rfl rfl dX6_addsChild_69 ?_
    refine lv_aload_n hx hb dX6_addsChild_72 rfl (lv_at hl 0 rfl) ?_
    refine m_geti (v := .int (S6.1 0)) X hK hM 0 q1476 rfl rfl rfl dX6_addsChild_73 ?_
    refine lv_iconst (v := 0) hx hb dX6_addsChild_76 (by decide) ?_
    obtain ⟨S7, eS7, hs⟩ := hs
    refine m_iast X hK hM rfl eS7 dX6_addsChild_77 (fun H locs hM => ?_)
    refine lv_aload_n hx hb dX6_addsChild_78 rfl (lv_at hl 0 rfl) ?_
    refine lv_dup hx hb dX6_addsChild_79 rfl ?_
    refine m_geti (v := .int (S7.1 0)) X hK hM 0 q1476 rfl rfl rfl dX6_addsChild_80 ?_
    refine lv_dup_x1 hx hb dX6_addsChild_83 rfl rfl ?_
    refine lv_iconst (v := 1) hx hb dX6_addsChild_84 (by decide) ?_
    refine lv_iadd hx hb dX6_addsChild_85 ?_
    refine m_puti X hK hM 0 q1476 rfl rfl rfl rfl rfl rfl dX6_addsChild_86 (fun H locs hM => ?_)
    exact m_reti X hK hM hs dX6_addsChild_89
  refine lv_icmp_ge (tgt := 56) hx hb dX6_addsChild_46 (by decide) (fun c7 => ?_) (fun c7 => ?_)
  · replace hs := ifp c7 hs
    refine lv_iconst (v := 0) hx hb dX6_addsChild_56 (by decide) ?_
    exact Ek57_4 _ _ _ _ hs hM (lv_sub hl [0] rfl)
  · replace hs := ifn c7 hs
    refine lv_aload_n hx hb dX6_addsChild_49 rfl (lv_at hl 0 rfl) ?_
    refine m_geti (v := .int (S3.1 0)) X hK hM 0 q1476 rfl rfl rfl dX6_addsChild_50 ?_
    refine lv_goto (tgt := 57) hx hb dX6_addsChild_53 (by decide) ?_
    exact Ek57_4 _ _ _ _ hs hM (lv_sub hl [0] rfl)
def m_child (a1 : Int32) (a2 : Int32) (a3 : Int32) (S : MS) (K : Int32 → MS → Prop) : Prop := jn (m_no (-1) S (fun r2 S1 => K r2 S1)) (fun k10_0 => (if a1 < 0 then k10_0 else (if a1 ≤ 6 then jn (m_no (-6) S (fun r4 S3 => K r4 S3)) (fun k37_2 => (if a2 < 0 then k37_2 else (if 9 < a2 then k37_2 else (if a3 < 1 then k37_2 else (if a3 ≤ 9 then (if (S.1 0) = 8 then m_no (-7) S (fun r8 S7 => K r8 S7) else m_addsChild a1 a2 a3 S (fun r6 S5 => K r6 S5)) else k37_2))))) else k10_0)))
theorem iX6_child : mInf yX6_child cX6_child 4 (some .int) 3 := ⟨q1723, q1724, q1725, by decide +kernel⟩
set_option maxHeartbeats 4000000 in
theorem met_child (l : Launch) (a1 : Int32) (a2 : Int32) (a3 : Int32) (S : MS) (K : Int32 → MS → Prop) (hs : m_child a1 a2 a3 S K) : mMeti l yX6_child cX6_child 4 1 23 S (fun ad => [.int a1, .int a2, .int a3]) K := by
  intro D dT h ad sz
  refine mEnter (Qc := mQi D dT h ad K) (by decide) rfl (by rfl) ?_
  intro p e s m args below meth c A ls X hK hA hM hl
  have hx := X.1
  have hb := X.2.1
  have hts := X.2.2.2.2.1
  have hown := X.2.2.2.2.2.1
  have hl : lv_has ls 4 [(0, .ref h), (1, .int a1), (2, .int a2), (3, .int a3)] := hl
  unfold m_child at hs
  refine lv_iload_n hx hb dX6_child_0 rfl (lv_at hl 1 rfl) ?_
  obtain ⟨k10_0, hk10_0, hs⟩ := jn_ex hs
  have Ek10_0 : ∀ (H : Heap) (locs : List Loc) (ls : Array Slot), k10_0 → mI D dT A s.heap h ad S H locs → lv_has ls 4 [(0, .ref h)] → W p l e (mRm 1 23) s m args below meth c H locs 0 0 (MQ below (mQi D dT h ad K A) args s 0 0 A) (F0 m 10 ls []) := by
    intro H locs ls hs hM hl
    rw [hk10_0] at hs
    refine lv_aload_n hx hb dX6_child_10 rfl (lv_at hl 0 rfl) ?_
    refine lv_iconst (v := (-1)) hx hb dX6_child_11 (by decide) ?_
    refine m_calli (rest := []) (av := fun ad => [.int (-1)]) X hK hA hM (met_no l (-1) _ _ hs) iX6_no q1662 ⟨Nat.le_of_ble_eq_true rfl, Nat.le_of_ble_eq_true rfl⟩ rfl hl.1 rfl (Nat.le_of_ble_eq_true rfl) dX6_child_12 (fun r2 S1 H locs hs hM => ?_)
    exact m_reti X hK hM hs dX6_child_15
  refine lv_if_lt (tgt := 10) hx hb dX6_child_1 (by decide) (fun c14 => ?_) (fun c14 => ?_)
  · replace hs := ifp c14 hs
    exact Ek10_0 _ _ _ hs hM (lv_sub hl [0] rfl)
  · replace hs := ifn c14 hs
    refine lv_iload_n hx hb dX6_child_4 rfl (lv_at hl 1 rfl) ?_
    refine lv_bipush (v := 6) hx hb dX6_child_5 (by decide) ?_
    refine lv_icmp_le (tgt := 16) hx hb dX6_child_7 (by decide) (fun c13 => ?_) (fun c13 => ?_)
    · replace hs := ifp c13 hs
      refine lv_iload_n hx hb dX6_child_16 rfl (lv_at hl 2 rfl) ?_
      obtain ⟨k37_2, hk37_2, hs⟩ := jn_ex hs
      have Ek37_2 : ∀ (H : Heap) (locs : List Loc) (ls : Array Slot), k37_2 → mI D dT A s.heap h ad S H locs → lv_has ls 4 [(0, .ref h)] → W p l e (mRm 1 23) s m args below meth c H locs 0 0 (MQ below (mQi D dT h ad K A) args s 0 0 A) (F0 m 37 ls []) := by
        intro H locs ls hs hM hl
        rw [hk37_2] at hs
        refine lv_aload_n hx hb dX6_child_37 rfl (lv_at hl 0 rfl) ?_
        refine lv_bipush (v := (-6)) hx hb dX6_child_38 (by decide) ?_
        refine m_calli (rest := []) (av := fun ad => [.int (-6)]) X hK hA hM (met_no l (-6) _ _ hs) iX6_no q1662 ⟨Nat.le_of_ble_eq_true rfl, Nat.le_of_ble_eq_true rfl⟩ rfl hl.1 rfl (Nat.le_of_ble_eq_true rfl) dX6_child_40 (fun r4 S3 H locs hs hM => ?_)
        exact m_reti X hK hM hs dX6_child_43
      refine lv_if_lt (tgt := 37) hx hb dX6_child_17 (by decide) (fun c12 => ?_) (fun c12 => ?_)
      · replace hs := ifp c12 hs
        exact Ek37_2 _ _ _ hs hM (lv_sub hl [0] rfl)
      · replace hs := ifn c12 hs
        refine lv_iload_n hx hb dX6_child_20 rfl (lv_at hl 2 rfl) ?_
        refine lv_bipush (v := 9) hx hb dX6_child_21 (by decide) ?_
        refine lv_icmp_gt (tgt := 37) hx hb dX6_child_23 (by decide) (fun c11 => ?_) (fun c11 => ?_)
        · replace hs := ifp c11 hs
          exact Ek37_2 _ _ _ hs hM (lv_sub hl [0] rfl)
        · replace hs := ifn c11 hs
          refine lv_iload_n hx hb dX6_child_26 rfl (lv_at hl 3 rfl) ?_
          refine lv_iconst (v := 1) hx hb dX6_child_27 (by decide) ?_
          refine lv_icmp_lt (tgt := 37) hx hb dX6_child_28 (by decide) (fun c10 => ?_) (fun c10 => ?_)
          · replace hs := ifp c10 hs
            exact Ek37_2 _ _ _ hs hM (lv_sub hl [0] rfl)
          · replace hs := ifn c10 hs
            refine lv_iload_n hx hb dX6_child_31 rfl (lv_at hl 3 rfl) ?_
            refine lv_bipush (v := 9) hx hb dX6_child_32 (by decide) ?_
            refine lv_icmp_le (tgt := 44) hx hb dX6_child_34 (by decide) (fun c9 => ?_) (fun c9 => ?_)
            · replace hs := ifp c9 hs
              refine lv_aload_n hx hb dX6_child_44 rfl (lv_at hl 0 rfl) ?_
              refine m_geti (v := .int (S.1 0)) X hK hM 0 q1476 rfl rfl rfl dX6_child_45 ?_
              refine lv_bipush (v := 8) hx hb dX6_child_48 (by decide) ?_
              refine lv_icmp_ne (tgt := 62) hx hb dX6_child_50 (by decide) (fun c8 => ?_) (fun c8 => ?_)
              · replace hs := ifn c8 hs
                refine lv_aload_n hx hb dX6_child_62 rfl (lv_at hl 0 rfl) ?_
                refine lv_iload_n hx hb dX6_child_63 rfl (lv_at hl 1 rfl) ?_
                refine lv_iload_n hx hb dX6_child_64 rfl (lv_at hl 2 rfl) ?_
                refine lv_iload_n hx hb dX6_child_65 rfl (lv_at hl 3 rfl) ?_
                refine m_calli (rest := []) (av := fun ad => [.int a1, .int a2, .int a3]) X hK hA hM (met_addsChild l a1 a2 a3 _ _ hs) iX6_addsChild q1726 ⟨Nat.le_of_ble_eq_true rfl, Nat.le_of_ble_eq_true rfl⟩ rfl hl.1 rfl (Nat.le_of_ble_eq_true rfl) dX6_child_66 (fun r6 S5 H locs hs hM => ?_)
                exact m_reti X hK hM hs dX6_child_69
              · replace hs := ifp c8 hs
                refine lv_aload_n hx hb dX6_child_53 rfl (lv_at hl 0 rfl) ?_
                refine lv_bipush (v := (-7)) hx hb dX6_child_54 (by decide) ?_
                refine m_calli (rest := []) (av := fun ad => [.int (-7)]) X hK hA hM (met_no l (-7) _ _ hs) iX6_no q1662 ⟨Nat.le_of_ble_eq_true rfl, Nat.le_of_ble_eq_true rfl⟩ rfl hl.1 rfl (Nat.le_of_ble_eq_true rfl) dX6_child_56 (fun r8 S7 H locs hs hM => ?_)
                refine lv_goto (tgt := 69) hx hb dX6_child_59 (by decide) ?_
                exact m_reti X hK hM hs dX6_child_69
            · replace hs := ifn c9 hs
              exact Ek37_2 _ _ _ hs hM (lv_sub hl [0] rfl)
    · replace hs := ifn c13 hs
      exact Ek10_0 _ _ _ hs hM (lv_sub hl [0] rfl)
def m_addsSack (a1 : Int32) (a2 : Int32) (S : MS) (K : Int32 → MS → Prop) : Prop := obd (mast S 17 (S.1 1) a1) (fun S1 => obd (mast S1 18 (S1.1 1) a2) (fun S2 => K (S2.1 1) (mset S2 1 ((S2.1 1) + 1))))
theorem iX6_addsSack : mInf yX6_addsSack cX6_addsSack 3 (some .int) 2 := ⟨q1736, qs50, q1737, by decide +kernel⟩
set_option maxHeartbeats 4000000 in
theorem met_addsSack (l : Launch) (a1 : Int32) (a2 : Int32) (S : MS) (K : Int32 → MS → Prop) (hs : m_addsSack a1 a2 S K) : mMeti l yX6_addsSack cX6_addsSack 3 0 0 S (fun ad => [.int a1, .int a2]) K := by
  intro D dT h ad sz
  refine mEnter (Qc := mQi D dT h ad K) (by decide) rfl (by rfl) ?_
  intro p e s m args below meth c A ls X hK hA hM hl
  have hx := X.1
  have hb := X.2.1
  have hts := X.2.2.2.2.1
  have hown := X.2.2.2.2.2.1
  have hl : lv_has ls 3 [(0, .ref h), (1, .int a1), (2, .int a2)] := hl
  unfold m_addsSack at hs
  refine lv_aload_n hx hb dX6_addsSack_0 rfl (lv_at hl 0 rfl) ?_
  refine m_geti (v := .ref (ad 17)) X hK hM 17 q1493 rfl rfl rfl dX6_addsSack_1 ?_
  refine lv_aload_n hx hb dX6_addsSack_4 rfl (lv_at hl 0 rfl) ?_
  refine m_geti (v := .int (S.1 1)) X hK hM 1 q1477 rfl rfl rfl dX6_addsSack_5 ?_
  refine lv_iload_n hx hb dX6_addsSack_8 rfl (lv_at hl 1 rfl) ?_
  obtain ⟨S1, eS1, hs⟩ := hs
  refine m_iast X hK hM rfl eS1 dX6_addsSack_9 (fun H locs hM => ?_)
  refine lv_aload_n hx hb dX6_addsSack_10 rfl (lv_at hl 0 rfl) ?_
  refine m_geti (v := .ref (ad 18)) X hK hM 18 q1494 rfl rfl rfl dX6_addsSack_11 ?_
  refine lv_aload_n hx hb dX6_addsSack_14 rfl (lv_at hl 0 rfl) ?_
  refine m_geti (v := .int (S1.1 1)) X hK hM 1 q1477 rfl rfl rfl dX6_addsSack_15 ?_
  refine lv_iload_n hx hb dX6_addsSack_18 rfl (lv_at hl 2 rfl) ?_
  obtain ⟨S2, eS2, hs⟩ := hs
  refine m_iast X hK hM rfl eS2 dX6_addsSack_19 (fun H locs hM => ?_)
  refine lv_aload_n hx hb dX6_addsSack_20 rfl (lv_at hl 0 rfl) ?_
  refine lv_dup hx hb dX6_addsSack_21 rfl ?_
  refine m_geti (v := .int (S2.1 1)) X hK hM 1 q1477 rfl rfl rfl dX6_addsSack_22 ?_
  refine lv_dup_x1 hx hb dX6_addsSack_25 rfl rfl ?_
  refine lv_iconst (v := 1) hx hb dX6_addsSack_26 (by decide) ?_
  refine lv_iadd hx hb dX6_addsSack_27 ?_
  refine m_puti X hK hM 1 q1477 rfl rfl rfl rfl rfl rfl dX6_addsSack_28 (fun H locs hM => ?_)
  exact m_reti X hK hM hs dX6_addsSack_31
def m_sack (a1 : Int32) (a2 : Int32) (S : MS) (K : Int32 → MS → Prop) : Prop := jn (m_no (-6) S (fun r2 S1 => K r2 S1)) (fun k21_0 => (if a1 < 1 then k21_0 else (if 9 < a1 then k21_0 else (if a2 < 0 then k21_0 else (if a2 ≤ 9 then (if (S.1 1) = 8 then m_no (-7) S (fun r6 S5 => K r6 S5) else m_addsSack a1 a2 S (fun r4 S3 => K r4 S3)) else k21_0)))))
theorem iX6_sack : mInf yX6_sack cX6_sack 3 (some .int) 2 := ⟨q1731, q1732, q1733, by decide +kernel⟩
set_option maxHeartbeats 4000000 in
theorem met_sack (l : Launch) (a1 : Int32) (a2 : Int32) (S : MS) (K : Int32 → MS → Prop) (hs : m_sack a1 a2 S K) : mMeti l yX6_sack cX6_sack 3 1 22 S (fun ad => [.int a1, .int a2]) K := by
  intro D dT h ad sz
  refine mEnter (Qc := mQi D dT h ad K) (by decide) rfl (by rfl) ?_
  intro p e s m args below meth c A ls X hK hA hM hl
  have hx := X.1
  have hb := X.2.1
  have hts := X.2.2.2.2.1
  have hown := X.2.2.2.2.2.1
  have hl : lv_has ls 3 [(0, .ref h), (1, .int a1), (2, .int a2)] := hl
  unfold m_sack at hs
  refine lv_iload_n hx hb dX6_sack_0 rfl (lv_at hl 1 rfl) ?_
  refine lv_iconst (v := 1) hx hb dX6_sack_1 (by decide) ?_
  obtain ⟨k21_0, hk21_0, hs⟩ := jn_ex hs
  have Ek21_0 : ∀ (H : Heap) (locs : List Loc) (ls : Array Slot), k21_0 → mI D dT A s.heap h ad S H locs → lv_has ls 3 [(0, .ref h)] → W p l e (mRm 1 22) s m args below meth c H locs 0 0 (MQ below (mQi D dT h ad K A) args s 0 0 A) (F0 m 21 ls []) := by
    intro H locs ls hs hM hl
    rw [hk21_0] at hs
    refine lv_aload_n hx hb dX6_sack_21 rfl (lv_at hl 0 rfl) ?_
    refine lv_bipush (v := (-6)) hx hb dX6_sack_22 (by decide) ?_
    refine m_calli (rest := []) (av := fun ad => [.int (-6)]) X hK hA hM (met_no l (-6) _ _ hs) iX6_no q1662 ⟨Nat.le_of_ble_eq_true rfl, Nat.le_of_ble_eq_true rfl⟩ rfl hl.1 rfl (Nat.le_of_ble_eq_true rfl) dX6_sack_24 (fun r2 S1 H locs hs hM => ?_)
    exact m_reti X hK hM hs dX6_sack_27
  refine lv_icmp_lt (tgt := 21) hx hb dX6_sack_2 (by decide) (fun c10 => ?_) (fun c10 => ?_)
  · replace hs := ifp c10 hs
    exact Ek21_0 _ _ _ hs hM (lv_sub hl [0] rfl)
  · replace hs := ifn c10 hs
    refine lv_iload_n hx hb dX6_sack_5 rfl (lv_at hl 1 rfl) ?_
    refine lv_bipush (v := 9) hx hb dX6_sack_6 (by decide) ?_
    refine lv_icmp_gt (tgt := 21) hx hb dX6_sack_8 (by decide) (fun c9 => ?_) (fun c9 => ?_)
    · replace hs := ifp c9 hs
      exact Ek21_0 _ _ _ hs hM (lv_sub hl [0] rfl)
    · replace hs := ifn c9 hs
      refine lv_iload_n hx hb dX6_sack_11 rfl (lv_at hl 2 rfl) ?_
      refine lv_if_lt (tgt := 21) hx hb dX6_sack_12 (by decide) (fun c8 => ?_) (fun c8 => ?_)
      · replace hs := ifp c8 hs
        exact Ek21_0 _ _ _ hs hM (lv_sub hl [0] rfl)
      · replace hs := ifn c8 hs
        refine lv_iload_n hx hb dX6_sack_15 rfl (lv_at hl 2 rfl) ?_
        refine lv_bipush (v := 9) hx hb dX6_sack_16 (by decide) ?_
        refine lv_icmp_le (tgt := 28) hx hb dX6_sack_18 (by decide) (fun c7 => ?_) (fun c7 => ?_)
        · replace hs := ifp c7 hs
          refine lv_aload_n hx hb dX6_sack_28 rfl (lv_at hl 0 rfl) ?_
          refine m_geti (v := .int (S.1 1)) X hK hM 1 q1477 rfl rfl rfl dX6_sack_29 ?_
          refine lv_bipush (v := 8) hx hb dX6_sack_32 (by decide) ?_
          refine lv_icmp_ne (tgt := 46) hx hb dX6_sack_34 (by decide) (fun c6 => ?_) (fun c6 => ?_)
          · replace hs := ifn c6 hs
            refine lv_aload_n hx hb dX6_sack_46 rfl (lv_at hl 0 rfl) ?_
            refine lv_iload_n hx hb dX6_sack_47 rfl (lv_at hl 1 rfl) ?_
            refine lv_iload_n hx hb dX6_sack_48 rfl (lv_at hl 2 rfl) ?_
            refine m_calli (rest := []) (av := fun ad => [.int a1, .int a2]) X hK hA hM (met_addsSack l a1 a2 _ _ hs) iX6_addsSack q1734 ⟨Nat.le_of_ble_eq_true rfl, Nat.le_of_ble_eq_true rfl⟩ rfl hl.1 rfl (Nat.le_of_ble_eq_true rfl) dX6_sack_49 (fun r4 S3 H locs hs hM => ?_)
            exact m_reti X hK hM hs dX6_sack_52
          · replace hs := ifp c6 hs
            refine lv_aload_n hx hb dX6_sack_37 rfl (lv_at hl 0 rfl) ?_
            refine lv_bipush (v := (-7)) hx hb dX6_sack_38 (by decide) ?_
            refine m_calli (rest := []) (av := fun ad => [.int (-7)]) X hK hA hM (met_no l (-7) _ _ hs) iX6_no q1662 ⟨Nat.le_of_ble_eq_true rfl, Nat.le_of_ble_eq_true rfl⟩ rfl hl.1 rfl (Nat.le_of_ble_eq_true rfl) dX6_sack_40 (fun r6 S5 H locs hs hM => ?_)
            refine lv_goto (tgt := 52) hx hb dX6_sack_43 (by decide) ?_
            exact m_reti X hK hM hs dX6_sack_52
        · replace hs := ifn c7 hs
          exact Ek21_0 _ _ _ hs hM (lv_sub hl [0] rfl)
def m_childOf (a1 : Int32) (a2 : Int32) (S : MS) (K : Int32 → MS → Prop) : Prop := m_isChild a1 S (fun r2 S1 => (if r2 = 0 then m_no (-5) S1 (fun r20 S19 => K r20 S19) else m_puts a1 S1 (fun S3 => (if a2 = 0 then obd (mald S3 11 a1) (fun v5 => K v5 S3) else if a2 = 1 then obd (mald S3 12 a1) (fun v6 => K v6 S3) else if a2 = 2 then obd (mald S3 13 a1) (fun v7 => K v7 S3) else if a2 = 3 then obd (mald S3 14 a1) (fun v8 => K v8 S3) else if a2 = 4 then obd (mald S3 15 a1) (fun v9 => K v9 S3) else if a2 = 5 then m_stride  S3 (fun r11 S10 => K r11 S10) else if a2 = 6 then m_puff  S3 (fun r13 S12 => K r13 S12) else if a2 = 7 then m_risk  S3 (fun r15 S14 => K r15 S14) else if a2 = 8 then obd (mald S3 16 a1) (fun v16 => K v16 S3) else m_no (-5) S3 (fun r18 S17 => K r18 S17)))))
theorem iX6_childOf : mInf yX6_childOf cX6_childOf 3 (some .int) 2 := ⟨q1739, q1740, q1741, by decide +kernel⟩
set_option maxHeartbeats 4000000 in
theorem met_childOf (l : Launch) (a1 : Int32) (a2 : Int32) (S : MS) (K : Int32 → MS → Prop) (hs : m_childOf a1 a2 S K) : mMeti l yX6_childOf cX6_childOf 3 3 63 S (fun ad => [.int a1, .int a2]) K := by
  intro D dT h ad sz
  refine mEnter (Qc := mQi D dT h ad K) (by decide) rfl (by rfl) ?_
  intro p e s m args below meth c A ls X hK hA hM hl
  have hx := X.1
  have hb := X.2.1
  have hts := X.2.2.2.2.1
  have hown := X.2.2.2.2.2.1
  have hl : lv_has ls 3 [(0, .ref h), (1, .int a1), (2, .int a2)] := hl
  unfold m_childOf at hs
  refine lv_aload_n hx hb dX6_childOf_0 rfl (lv_at hl 0 rfl) ?_
  refine lv_iload_n hx hb dX6_childOf_1 rfl (lv_at hl 1 rfl) ?_
  refine m_callz (rest := []) (av := fun ad => [.int a1]) X hK hA hM (met_isChild l a1 _ _ hs) iX6_isChild q1682 ⟨Nat.le_of_ble_eq_true rfl, Nat.le_of_ble_eq_true rfl⟩ rfl hl.1 rfl (Nat.le_of_ble_eq_true rfl) dX6_childOf_2 (fun r2 S1 H locs br2 hs hM => ?_)
  refine lv_if_ne (tgt := 15) hx hb dX6_childOf_5 (by decide) (fun c20 => ?_) (fun c20 => ?_)
  · replace hs := ifn c20 hs
    refine lv_aload_n hx hb dX6_childOf_15 rfl (lv_at hl 0 rfl) ?_
    refine lv_iload_n hx hb dX6_childOf_16 rfl (lv_at hl 1 rfl) ?_
    refine m_callv (rest := []) (av := fun ad => [.int a1]) X hK hA hM (met_puts l a1 _ _ hs) iX6_puts q1694 ⟨Nat.le_of_ble_eq_true rfl, Nat.le_of_ble_eq_true rfl⟩ rfl hl.1 rfl (Nat.le_of_ble_eq_true rfl) dX6_childOf_17 (fun S3 H locs hs hM => ?_)
    refine lv_iload_n hx hb dX6_childOf_20 rfl (lv_at hl 2 rfl) ?_
    by_cases c3_0 : a2 = 0
    · replace hs := ifp c3_0 hs
      refine lv_tableIn (tgt := 72) hx hb dX6_childOf_21 (by rw [c3_0]; decide) (by rw [c3_0]; decide) (by rw [c3_0]; rfl) (by decide) ?_
      refine lv_aload_n hx hb dX6_childOf_72 rfl (lv_at hl 0 rfl) ?_
      refine m_geti (v := .ref (ad 11)) X hK hM 11 q1487 rfl rfl rfl dX6_childOf_73 ?_
      refine lv_iload_n hx hb dX6_childOf_76 rfl (lv_at hl 1 rfl) ?_
      obtain ⟨v5, ev5, hs⟩ := hs
      refine m_iald X hK hM rfl ev5 dX6_childOf_77 ?_
      exact m_reti X hK hM hs dX6_childOf_78
    · replace hs := ifn c3_0 hs
      by_cases c3_1 : a2 = 1
      · replace hs := ifp c3_1 hs
        refine lv_tableIn (tgt := 79) hx hb dX6_childOf_21 (by rw [c3_1]; decide) (by rw [c3_1]; decide) (by rw [c3_1]; rfl) (by decide) ?_
        refine lv_aload_n hx hb dX6_childOf_79 rfl (lv_at hl 0 rfl) ?_
        refine m_geti (v := .ref (ad 12)) X hK hM 12 q1488 rfl rfl rfl dX6_childOf_80 ?_
        refine lv_iload_n hx hb dX6_childOf_83 rfl (lv_at hl 1 rfl) ?_
        obtain ⟨v6, ev6, hs⟩ := hs
        refine m_iald X hK hM rfl ev6 dX6_childOf_84 ?_
        exact m_reti X hK hM hs dX6_childOf_85
      · replace hs := ifn c3_1 hs
        by_cases c3_2 : a2 = 2
        · replace hs := ifp c3_2 hs
          refine lv_tableIn (tgt := 86) hx hb dX6_childOf_21 (by rw [c3_2]; decide) (by rw [c3_2]; decide) (by rw [c3_2]; rfl) (by decide) ?_
          refine lv_aload_n hx hb dX6_childOf_86 rfl (lv_at hl 0 rfl) ?_
          refine m_geti (v := .ref (ad 13)) X hK hM 13 q1489 rfl rfl rfl dX6_childOf_87 ?_
          refine lv_iload_n hx hb dX6_childOf_90 rfl (lv_at hl 1 rfl) ?_
          obtain ⟨v7, ev7, hs⟩ := hs
          refine m_iald X hK hM rfl ev7 dX6_childOf_91 ?_
          exact m_reti X hK hM hs dX6_childOf_92
        · replace hs := ifn c3_2 hs
          by_cases c3_3 : a2 = 3
          · replace hs := ifp c3_3 hs
            refine lv_tableIn (tgt := 93) hx hb dX6_childOf_21 (by rw [c3_3]; decide) (by rw [c3_3]; decide) (by rw [c3_3]; rfl) (by decide) ?_
            refine lv_aload_n hx hb dX6_childOf_93 rfl (lv_at hl 0 rfl) ?_
            refine m_geti (v := .ref (ad 14)) X hK hM 14 q1490 rfl rfl rfl dX6_childOf_94 ?_
            refine lv_iload_n hx hb dX6_childOf_97 rfl (lv_at hl 1 rfl) ?_
            obtain ⟨v8, ev8, hs⟩ := hs
            refine m_iald X hK hM rfl ev8 dX6_childOf_98 ?_
            exact m_reti X hK hM hs dX6_childOf_99
          · replace hs := ifn c3_3 hs
            by_cases c3_4 : a2 = 4
            · replace hs := ifp c3_4 hs
              refine lv_tableIn (tgt := 100) hx hb dX6_childOf_21 (by rw [c3_4]; decide) (by rw [c3_4]; decide) (by rw [c3_4]; rfl) (by decide) ?_
              refine lv_aload_n hx hb dX6_childOf_100 rfl (lv_at hl 0 rfl) ?_
              refine m_geti (v := .ref (ad 15)) X hK hM 15 q1491 rfl rfl rfl dX6_childOf_101 ?_
              refine lv_iload_n hx hb dX6_childOf_104 rfl (lv_at hl 1 rfl) ?_
              obtain ⟨v9, ev9, hs⟩ := hs
              refine m_iald X hK hM rfl ev9 dX6_childOf_105 ?_
              exact m_reti X hK hM hs dX6_childOf_106
            · replace hs := ifn c3_4 hs
              by_cases c3_5 : a2 = 5
              · replace hs := ifp c3_5 hs
                refine lv_tableIn (tgt := 107) hx hb dX6_childOf_21 (by rw [c3_5]; decide) (by rw [c3_5]; decide) (by rw [c3_5]; rfl) (by decide) ?_
                refine lv_aload_n hx hb dX6_childOf_107 rfl (lv_at hl 0 rfl) ?_
                refine m_calli (rest := []) (av := fun ad => []) X hK hA hM (met_stride l  _ _ hs) iX6_stride q1710 ⟨Nat.le_of_ble_eq_true rfl, Nat.le_of_ble_eq_true rfl⟩ rfl hl.1 rfl (Nat.le_of_ble_eq_true rfl) dX6_childOf_108 (fun r11 S10 H locs hs hM => ?_)
                exact m_reti X hK hM hs dX6_childOf_111
              · replace hs := ifn c3_5 hs
                by_cases c3_6 : a2 = 6
                · replace hs := ifp c3_6 hs
                  refine lv_tableIn (tgt := 112) hx hb dX6_childOf_21 (by rw [c3_6]; decide) (by rw [c3_6]; decide) (by rw [c3_6]; rfl) (by decide) ?_
                  refine lv_aload_n hx hb dX6_childOf_112 rfl (lv_at hl 0 rfl) ?_
                  refine m_calli (rest := []) (av := fun ad => []) X hK hA hM (met_puff l  _ _ hs) iX6_puff q1706 ⟨Nat.le_of_ble_eq_true rfl, Nat.le_of_ble_eq_true rfl⟩ rfl hl.1 rfl (Nat.le_of_ble_eq_true rfl) dX6_childOf_113 (fun r13 S12 H locs hs hM => ?_)
                  exact m_reti X hK hM hs dX6_childOf_116
                · replace hs := ifn c3_6 hs
                  by_cases c3_7 : a2 = 7
                  · replace hs := ifp c3_7 hs
                    refine lv_tableIn (tgt := 117) hx hb dX6_childOf_21 (by rw [c3_7]; decide) (by rw [c3_7]; decide) (by rw [c3_7]; rfl) (by decide) ?_
                    refine lv_aload_n hx hb dX6_childOf_117 rfl (lv_at hl 0 rfl) ?_
                    refine m_calli (rest := []) (av := fun ad => []) X hK hA hM (met_risk l  _ _ hs) iX6_risk q1718 ⟨Nat.le_of_ble_eq_true rfl, Nat.le_of_ble_eq_true rfl⟩ rfl hl.1 rfl (Nat.le_of_ble_eq_true rfl) dX6_childOf_118 (fun r15 S14 H locs hs hM => ?_)
                    exact m_reti X hK hM hs dX6_childOf_121
                  · replace hs := ifn c3_7 hs
                    by_cases c3_8 : a2 = 8
                    · replace hs := ifp c3_8 hs
                      refine lv_tableIn (tgt := 122) hx hb dX6_childOf_21 (by rw [c3_8]; decide) (by rw [c3_8]; decide) (by rw [c3_8]; rfl) (by decide) ?_
                      refine lv_aload_n hx hb dX6_childOf_122 rfl (lv_at hl 0 rfl) ?_
                      refine m_geti (v := .ref (ad 16)) X hK hM 16 q1492 rfl rfl rfl dX6_childOf_123 ?_
                      refine lv_iload_n hx hb dX6_childOf_126 rfl (lv_at hl 1 rfl) ?_
                      obtain ⟨v16, ev16, hs⟩ := hs
                      refine m_iald X hK hM rfl ev16 dX6_childOf_127 ?_
                      exact m_reti X hK hM hs dX6_childOf_128
                    · replace hs := ifn c3_8 hs
                      refine lv_tableOut (tgt := 129) hx hb dX6_childOf_21 (sw_out (fun k h1 h2 => by
                        have h3 : k = 0 ∨ k = 1 ∨ k = 2 ∨ k = 3 ∨ k = 4 ∨ k = 5 ∨ k = 6 ∨ k = 7 ∨ k = 8 := by omega
                        rcases h3 with rfl | rfl | rfl | rfl | rfl | rfl | rfl | rfl | rfl
                        · exact lv_neT c3_0 rfl
                        · exact lv_neT c3_1 rfl
                        · exact lv_neT c3_2 rfl
                        · exact lv_neT c3_3 rfl
                        · exact lv_neT c3_4 rfl
                        · exact lv_neT c3_5 rfl
                        · exact lv_neT c3_6 rfl
                        · exact lv_neT c3_7 rfl
                        · exact lv_neT c3_8 rfl
                        )) (by decide) ?_
                      refine lv_aload_n hx hb dX6_childOf_129 rfl (lv_at hl 0 rfl) ?_
                      refine lv_bipush (v := (-5)) hx hb dX6_childOf_130 (by decide) ?_
                      refine m_calli (rest := []) (av := fun ad => [.int (-5)]) X hK hA hM (met_no l (-5) _ _ hs) iX6_no q1662 ⟨Nat.le_of_ble_eq_true rfl, Nat.le_of_ble_eq_true rfl⟩ rfl hl.1 rfl (Nat.le_of_ble_eq_true rfl) dX6_childOf_132 (fun r18 S17 H locs hs hM => ?_)
                      exact m_reti X hK hM hs dX6_childOf_135
  · replace hs := ifp c20 hs
    refine lv_aload_n hx hb dX6_childOf_8 rfl (lv_at hl 0 rfl) ?_
    refine lv_bipush (v := (-5)) hx hb dX6_childOf_9 (by decide) ?_
    refine m_calli (rest := []) (av := fun ad => [.int (-5)]) X hK hA hM (met_no l (-5) _ _ hs) iX6_no q1662 ⟨Nat.le_of_ble_eq_true rfl, Nat.le_of_ble_eq_true rfl⟩ rfl hl.1 rfl (Nat.le_of_ble_eq_true rfl) dX6_childOf_11 (fun r20 S19 H locs hs hM => ?_)
    exact m_reti X hK hM hs dX6_childOf_14
def m_isSack (a1 : Int32) (S : MS) (K : Int32 → MS → Prop) : Prop := (if a1 < 0 then K 0 S else (if (S.1 1) ≤ a1 then K 0 S else K 1 S))
theorem iX6_isSack : mInf yX6_isSack cX6_isSack 2 (some .boolean) 1 := ⟨q1748, qs51, q1749, by decide +kernel⟩
set_option maxHeartbeats 4000000 in
theorem met_isSack (l : Launch) (a1 : Int32) (S : MS) (K : Int32 → MS → Prop) (hs : m_isSack a1 S K) : mMetz l yX6_isSack cX6_isSack 2 0 0 S (fun ad => [.int a1]) K := by
  intro D dT h ad sz
  refine mEnter (Qc := mQz D dT h ad K) (by decide) rfl (by rfl) ?_
  intro p e s m args below meth c A ls X hK hA hM hl
  have hx := X.1
  have hb := X.2.1
  have hts := X.2.2.2.2.1
  have hown := X.2.2.2.2.2.1
  have hl : lv_has ls 2 [(0, .ref h), (1, .int a1)] := hl
  unfold m_isSack at hs
  refine lv_iload_n hx hb dX6_isSack_0 rfl (lv_at hl 1 rfl) ?_
  refine lv_if_lt (tgt := 16) hx hb dX6_isSack_1 (by decide) (fun c1 => ?_) (fun c1 => ?_)
  · replace hs := ifp c1 hs
    refine lv_iconst (v := 0) hx hb dX6_isSack_16 (by decide) ?_
    exact m_retz X hK hM isB0 hs dX6_isSack_17
  · replace hs := ifn c1 hs
    refine lv_iload_n hx hb dX6_isSack_4 rfl (lv_at hl 1 rfl) ?_
    refine lv_aload_n hx hb dX6_isSack_5 rfl (lv_at hl 0 rfl) ?_
    refine m_geti (v := .int (S.1 1)) X hK hM 1 q1477 rfl rfl rfl dX6_isSack_6 ?_
    refine lv_icmp_ge (tgt := 16) hx hb dX6_isSack_9 (by decide) (fun c0 => ?_) (fun c0 => ?_)
    · replace hs := ifp c0 hs
      refine lv_iconst (v := 0) hx hb dX6_isSack_16 (by decide) ?_
      exact m_retz X hK hM isB0 hs dX6_isSack_17
    · replace hs := ifn c0 hs
      refine lv_iconst (v := 1) hx hb dX6_isSack_12 (by decide) ?_
      refine lv_goto (tgt := 17) hx hb dX6_isSack_13 (by decide) ?_
      exact m_retz X hK hM isB1 hs dX6_isSack_17
def m_sackOf (a1 : Int32) (a2 : Int32) (S : MS) (K : Int32 → MS → Prop) : Prop := m_isSack a1 S (fun r2 S1 => (if r2 = 0 then m_no (-1) S1 (fun r10 S9 => K r10 S9) else (if a2 = 0 then obd (mald S1 17 a1) (fun v7 => K v7 S1) else (if a2 = 1 then obd (mald S1 18 a1) (fun v5 => K v5 S1) else m_no (-5) S1 (fun r4 S3 => K r4 S3)))))
theorem iX6_sackOf : mInf yX6_sackOf cX6_sackOf 3 (some .int) 2 := ⟨q1743, q1744, q1745, by decide +kernel⟩
set_option maxHeartbeats 4000000 in
theorem met_sackOf (l : Launch) (a1 : Int32) (a2 : Int32) (S : MS) (K : Int32 → MS → Prop) (hs : m_sackOf a1 a2 S K) : mMeti l yX6_sackOf cX6_sackOf 3 1 21 S (fun ad => [.int a1, .int a2]) K := by
  intro D dT h ad sz
  refine mEnter (Qc := mQi D dT h ad K) (by decide) rfl (by rfl) ?_
  intro p e s m args below meth c A ls X hK hA hM hl
  have hx := X.1
  have hb := X.2.1
  have hts := X.2.2.2.2.1
  have hown := X.2.2.2.2.2.1
  have hl : lv_has ls 3 [(0, .ref h), (1, .int a1), (2, .int a2)] := hl
  unfold m_sackOf at hs
  refine lv_aload_n hx hb dX6_sackOf_0 rfl (lv_at hl 0 rfl) ?_
  refine lv_iload_n hx hb dX6_sackOf_1 rfl (lv_at hl 1 rfl) ?_
  refine m_callz (rest := []) (av := fun ad => [.int a1]) X hK hA hM (met_isSack l a1 _ _ hs) iX6_isSack q1746 ⟨Nat.le_of_ble_eq_true rfl, Nat.le_of_ble_eq_true rfl⟩ rfl hl.1 rfl (Nat.le_of_ble_eq_true rfl) dX6_sackOf_2 (fun r2 S1 H locs br2 hs hM => ?_)
  refine lv_if_ne (tgt := 14) hx hb dX6_sackOf_5 (by decide) (fun c10 => ?_) (fun c10 => ?_)
  · replace hs := ifn c10 hs
    refine lv_iload_n hx hb dX6_sackOf_14 rfl (lv_at hl 2 rfl) ?_
    refine lv_if_ne (tgt := 27) hx hb dX6_sackOf_15 (by decide) (fun c7 => ?_) (fun c7 => ?_)
    · replace hs := ifn c7 hs
      refine lv_iload_n hx hb dX6_sackOf_27 rfl (lv_at hl 2 rfl) ?_
      refine lv_iconst (v := 1) hx hb dX6_sackOf_28 (by decide) ?_
      refine lv_icmp_ne (tgt := 41) hx hb dX6_sackOf_29 (by decide) (fun c5 => ?_) (fun c5 => ?_)
      · replace hs := ifn c5 hs
        refine lv_aload_n hx hb dX6_sackOf_41 rfl (lv_at hl 0 rfl) ?_
        refine lv_bipush (v := (-5)) hx hb dX6_sackOf_42 (by decide) ?_
        refine m_calli (rest := []) (av := fun ad => [.int (-5)]) X hK hA hM (met_no l (-5) _ _ hs) iX6_no q1662 ⟨Nat.le_of_ble_eq_true rfl, Nat.le_of_ble_eq_true rfl⟩ rfl hl.1 rfl (Nat.le_of_ble_eq_true rfl) dX6_sackOf_44 (fun r4 S3 H locs hs hM => ?_)
        exact m_reti X hK hM hs dX6_sackOf_47
      · replace hs := ifp c5 hs
        refine lv_aload_n hx hb dX6_sackOf_32 rfl (lv_at hl 0 rfl) ?_
        refine m_geti (v := .ref (ad 18)) X hK hM 18 q1494 rfl rfl rfl dX6_sackOf_33 ?_
        refine lv_iload_n hx hb dX6_sackOf_36 rfl (lv_at hl 1 rfl) ?_
        obtain ⟨v5, ev5, hs⟩ := hs
        refine m_iald X hK hM rfl ev5 dX6_sackOf_37 ?_
        refine lv_goto (tgt := 47) hx hb dX6_sackOf_38 (by decide) ?_
        exact m_reti X hK hM hs dX6_sackOf_47
    · replace hs := ifp c7 hs
      refine lv_aload_n hx hb dX6_sackOf_18 rfl (lv_at hl 0 rfl) ?_
      refine m_geti (v := .ref (ad 17)) X hK hM 17 q1493 rfl rfl rfl dX6_sackOf_19 ?_
      refine lv_iload_n hx hb dX6_sackOf_22 rfl (lv_at hl 1 rfl) ?_
      obtain ⟨v7, ev7, hs⟩ := hs
      refine m_iald X hK hM rfl ev7 dX6_sackOf_23 ?_
      refine lv_goto (tgt := 47) hx hb dX6_sackOf_24 (by decide) ?_
      exact m_reti X hK hM hs dX6_sackOf_47
  · replace hs := ifp c10 hs
    refine lv_aload_n hx hb dX6_sackOf_8 rfl (lv_at hl 0 rfl) ?_
    refine lv_iconst (v := (-1)) hx hb dX6_sackOf_9 (by decide) ?_
    refine m_calli (rest := []) (av := fun ad => [.int (-1)]) X hK hA hM (met_no l (-1) _ _ hs) iX6_no q1662 ⟨Nat.le_of_ble_eq_true rfl, Nat.le_of_ble_eq_true rfl⟩ rfl hl.1 rfl (Nat.le_of_ble_eq_true rfl) dX6_sackOf_10 (fun r10 S9 H locs hs hM => ?_)
    exact m_reti X hK hM hs dX6_sackOf_13
def m_wears (a1 : Int32) (a2 : Int32) (S : MS) (K : Int32 → MS → Prop) : Prop := m_isChild a1 S (fun r2 S1 => jn (fun (S3 : MS) => m_no (-1) S3 (fun r5 S4 => K r5 S4)) (fun k16_3 => (if r2 = 0 then k16_3 S1 else m_isSack a2 S1 (fun r7 S6 => (if r7 = 0 then k16_3 S6 else obd (mald S6 14 a1) (fun v8 => obd (mast S6 14 a1 a2) (fun S9 => K v8 S9)))))))
theorem iX6_wears : mInf yX6_wears cX6_wears 4 (some .int) 2 := ⟨q1751, q1752, q1753, by decide +kernel⟩
set_option maxHeartbeats 4000000 in
theorem met_wears (l : Launch) (a1 : Int32) (a2 : Int32) (S : MS) (K : Int32 → MS → Prop) (hs : m_wears a1 a2 S K) : mMeti l yX6_wears cX6_wears 4 1 21 S (fun ad => [.int a1, .int a2]) K := by
  intro D dT h ad sz
  refine mEnter (Qc := mQi D dT h ad K) (by decide) rfl (by rfl) ?_
  intro p e s m args below meth c A ls X hK hA hM hl
  have hx := X.1
  have hb := X.2.1
  have hts := X.2.2.2.2.1
  have hown := X.2.2.2.2.2.1
  have hl : lv_has ls 4 [(0, .ref h), (1, .int a1), (2, .int a2)] := hl
  unfold m_wears at hs
  refine lv_aload_n hx hb dX6_wears_0 rfl (lv_at hl 0 rfl) ?_
  refine lv_iload_n hx hb dX6_wears_1 rfl (lv_at hl 1 rfl) ?_
  refine m_callz (rest := []) (av := fun ad => [.int a1]) X hK hA hM (met_isChild l a1 _ _ hs) iX6_isChild q1682 ⟨Nat.le_of_ble_eq_true rfl, Nat.le_of_ble_eq_true rfl⟩ rfl hl.1 rfl (Nat.le_of_ble_eq_true rfl) dX6_wears_2 (fun r2 S1 H locs br2 hs hM => ?_)
  obtain ⟨k16_3, hk16_3, hs⟩ := jn_ex hs
  have Ek16_3 : ∀ (S3 : MS) (H : Heap) (locs : List Loc) (ls : Array Slot), k16_3 S3 → mI D dT A s.heap h ad S3 H locs → lv_has ls 4 [(0, .ref h)] → W p l e (mRm 1 21) s m args below meth c H locs 0 0 (MQ below (mQi D dT h ad K A) args s 0 0 A) (F0 m 16 ls []) := by
    intro S3 H locs ls hs hM hl
    rw [hk16_3] at hs
    refine lv_aload_n hx hb dX6_wears_16 rfl (lv_at hl 0 rfl) ?_
    refine lv_iconst (v := (-1)) hx hb dX6_wears_17 (by decide) ?_
    refine m_calli (rest := []) (av := fun ad => [.int (-1)]) X hK hA hM (met_no l (-1) _ _ hs) iX6_no q1662 ⟨Nat.le_of_ble_eq_true rfl, Nat.le_of_ble_eq_true rfl⟩ rfl hl.1 rfl (Nat.le_of_ble_eq_true rfl) dX6_wears_18 (fun r5 S4 H locs hs hM => ?_)
    exact m_reti X hK hM hs dX6_wears_21
  refine lv_if_eq (tgt := 16) hx hb dX6_wears_5 (by decide) (fun c10 => ?_) (fun c10 => ?_)
  · replace hs := ifp c10 hs
    exact Ek16_3 _ _ _ _ hs hM (lv_sub hl [0] rfl)
  · replace hs := ifn c10 hs
    refine lv_aload_n hx hb dX6_wears_8 rfl (lv_at hl 0 rfl) ?_
    refine lv_iload_n hx hb dX6_wears_9 rfl (lv_at hl 2 rfl) ?_
    refine m_callz (rest := []) (av := fun ad => [.int a2]) X hK hA hM (met_isSack l a2 _ _ hs) iX6_isSack q1746 ⟨Nat.le_of_ble_eq_true rfl, Nat.le_of_ble_eq_true rfl⟩ rfl hl.1 rfl (Nat.le_of_ble_eq_true rfl) dX6_wears_10 (fun r7 S6 H locs br7 hs hM => ?_)
    refine lv_if_ne (tgt := 22) hx hb dX6_wears_13 (by decide) (fun c9 => ?_) (fun c9 => ?_)
    · replace hs := ifn c9 hs
      refine lv_aload_n hx hb dX6_wears_22 rfl (lv_at hl 0 rfl) ?_
      refine m_geti (v := .ref (ad 14)) X hK hM 14 q1490 rfl rfl rfl dX6_wears_23 ?_
      refine lv_iload_n hx hb dX6_wears_26 rfl (lv_at hl 1 rfl) ?_
      obtain ⟨v8, ev8, hs⟩ := hs
      refine m_iald X hK hM rfl ev8 dX6_wears_27 ?_
      refine lv_istore_n (lv' := [(3, .int v8), (0, .ref h), (1, .int a1), (2, .int a2)]) hx hb dX6_wears_28 rfl hl (by decide) rfl (fun ls hl => ?_)
      refine lv_aload_n hx hb dX6_wears_29 rfl (lv_at hl 1 rfl) ?_
      refine m_geti (v := .ref (ad 14)) X hK hM 14 q1490 rfl rfl rfl dX6_wears_30 ?_
      refine lv_iload_n hx hb dX6_wears_33 rfl (lv_at hl 2 rfl) ?_
      refine lv_iload_n hx hb dX6_wears_34 rfl (lv_at hl 3 rfl) ?_
      obtain ⟨S9, eS9, hs⟩ := hs
      refine m_iast X hK hM rfl eS9 dX6_wears_35 (fun H locs hM => ?_)
      refine lv_iload_n hx hb dX6_wears_36 rfl (lv_at hl 0 rfl) ?_
      exact m_reti X hK hM hs dX6_wears_37
    · replace hs := ifp c9 hs
      exact Ek16_3 _ _ _ _ hs hM (lv_sub hl [0] rfl)
def m_ahead (a1 : Int32) (a2 : Int32) (S : MS) (K : Int32 → MS → Prop) : Prop := m_isChild a1 S (fun r2 S1 => (if r2 = 0 then m_no (-1) S1 (fun r10 S9 => K r10 S9) else jn (m_no (-6) S1 (fun r4 S3 => K r4 S3)) (fun k24_2 => (if a2 < 0 then k24_2 else (if a2 ≤ 99 then obd (mald S1 15 a1) (fun v5 => obd (mast S1 15 a1 a2) (fun S6 => K v5 S6)) else k24_2)))))
theorem iX6_ahead : mInf yX6_ahead cX6_ahead 4 (some .int) 2 := ⟨q1755, q1756, q1757, by decide +kernel⟩
set_option maxHeartbeats 4000000 in
theorem met_ahead (l : Launch) (a1 : Int32) (a2 : Int32) (S : MS) (K : Int32 → MS → Prop) (hs : m_ahead a1 a2 S K) : mMeti l yX6_ahead cX6_ahead 4 1 21 S (fun ad => [.int a1, .int a2]) K := by
  intro D dT h ad sz
  refine mEnter (Qc := mQi D dT h ad K) (by decide) rfl (by rfl) ?_
  intro p e s m args below meth c A ls X hK hA hM hl
  have hx := X.1
  have hb := X.2.1
  have hts := X.2.2.2.2.1
  have hown := X.2.2.2.2.2.1
  have hl : lv_has ls 4 [(0, .ref h), (1, .int a1), (2, .int a2)] := hl
  unfold m_ahead at hs
  refine lv_aload_n hx hb dX6_ahead_0 rfl (lv_at hl 0 rfl) ?_
  refine lv_iload_n hx hb dX6_ahead_1 rfl (lv_at hl 1 rfl) ?_
  refine m_callz (rest := []) (av := fun ad => [.int a1]) X hK hA hM (met_isChild l a1 _ _ hs) iX6_isChild q1682 ⟨Nat.le_of_ble_eq_true rfl, Nat.le_of_ble_eq_true rfl⟩ rfl hl.1 rfl (Nat.le_of_ble_eq_true rfl) dX6_ahead_2 (fun r2 S1 H locs br2 hs hM => ?_)
  refine lv_if_ne (tgt := 14) hx hb dX6_ahead_5 (by decide) (fun c10 => ?_) (fun c10 => ?_)
  · replace hs := ifn c10 hs
    refine lv_iload_n hx hb dX6_ahead_14 rfl (lv_at hl 2 rfl) ?_
    obtain ⟨k24_2, hk24_2, hs⟩ := jn_ex hs
    have Ek24_2 : ∀ (H : Heap) (locs : List Loc) (ls : Array Slot), k24_2 → mI D dT A s.heap h ad S1 H locs → lv_has ls 4 [(0, .ref h)] → W p l e (mRm 1 21) s m args below meth c H locs 0 0 (MQ below (mQi D dT h ad K A) args s 0 0 A) (F0 m 24 ls []) := by
      intro H locs ls hs hM hl
      rw [hk24_2] at hs
      refine lv_aload_n hx hb dX6_ahead_24 rfl (lv_at hl 0 rfl) ?_
      refine lv_bipush (v := (-6)) hx hb dX6_ahead_25 (by decide) ?_
      refine m_calli (rest := []) (av := fun ad => [.int (-6)]) X hK hA hM (met_no l (-6) _ _ hs) iX6_no q1662 ⟨Nat.le_of_ble_eq_true rfl, Nat.le_of_ble_eq_true rfl⟩ rfl hl.1 rfl (Nat.le_of_ble_eq_true rfl) dX6_ahead_27 (fun r4 S3 H locs hs hM => ?_)
      exact m_reti X hK hM hs dX6_ahead_30
    refine lv_if_lt (tgt := 24) hx hb dX6_ahead_15 (by decide) (fun c7 => ?_) (fun c7 => ?_)
    · replace hs := ifp c7 hs
      exact Ek24_2 _ _ _ hs hM (lv_sub hl [0] rfl)
    · replace hs := ifn c7 hs
      refine lv_iload_n hx hb dX6_ahead_18 rfl (lv_at hl 2 rfl) ?_
      refine lv_bipush (v := 99) hx hb dX6_ahead_19 (by decide) ?_
      refine lv_icmp_le (tgt := 31) hx hb dX6_ahead_21 (by decide) (fun c6 => ?_) (fun c6 => ?_)
      · replace hs := ifp c6 hs
        refine lv_aload_n hx hb dX6_ahead_31 rfl (lv_at hl 0 rfl) ?_
        refine m_geti (v := .ref (ad 15)) X hK hM 15 q1491 rfl rfl rfl dX6_ahead_32 ?_
        refine lv_iload_n hx hb dX6_ahead_35 rfl (lv_at hl 1 rfl) ?_
        obtain ⟨v5, ev5, hs⟩ := hs
        refine m_iald X hK hM rfl ev5 dX6_ahead_36 ?_
        refine lv_istore_n (lv' := [(3, .int v5), (0, .ref h), (1, .int a1), (2, .int a2)]) hx hb dX6_ahead_37 rfl hl (by decide) rfl (fun ls hl => ?_)
        refine lv_aload_n hx hb dX6_ahead_38 rfl (lv_at hl 1 rfl) ?_
        refine m_geti (v := .ref (ad 15)) X hK hM 15 q1491 rfl rfl rfl dX6_ahead_39 ?_
        refine lv_iload_n hx hb dX6_ahead_42 rfl (lv_at hl 2 rfl) ?_
        refine lv_iload_n hx hb dX6_ahead_43 rfl (lv_at hl 3 rfl) ?_
        obtain ⟨S6, eS6, hs⟩ := hs
        refine m_iast X hK hM rfl eS6 dX6_ahead_44 (fun H locs hM => ?_)
        refine lv_iload_n hx hb dX6_ahead_45 rfl (lv_at hl 0 rfl) ?_
        exact m_reti X hK hM hs dX6_ahead_46
      · replace hs := ifn c6 hs
        exact Ek24_2 _ _ _ hs hM (lv_sub hl [0] rfl)
  · replace hs := ifp c10 hs
    refine lv_aload_n hx hb dX6_ahead_8 rfl (lv_at hl 0 rfl) ?_
    refine lv_iconst (v := (-1)) hx hb dX6_ahead_9 (by decide) ?_
    refine m_calli (rest := []) (av := fun ad => [.int (-1)]) X hK hA hM (met_no l (-1) _ _ hs) iX6_no q1662 ⟨Nat.le_of_ble_eq_true rfl, Nat.le_of_ble_eq_true rfl⟩ rfl hl.1 rfl (Nat.le_of_ble_eq_true rfl) dX6_ahead_10 (fun r10 S9 H locs hs hM => ?_)
    exact m_reti X hK hM hs dX6_ahead_13
def m_isAsked (a1 : Int32) (a2 : Int32) (S : MS) (K : Int32 → MS → Prop) : Prop := jn (fun (v1 : Int32) => (if a2 < v1 then K 0 S else (if a1 = 0 then (if 200 < a2 then K 0 S else K 1 S) else (if a1 = 1 then (if 20 < a2 then K 0 S else K 1 S) else (if a1 = 2 then (if 9 < a2 then K 0 S else K 1 S) else (if 60 < a2 then K 0 S else K 1 S)))))) (fun k11_1 => (if 2 ≤ a1 then k11_1 0 else k11_1 1))
theorem iX6_isAsked : mInf yX6_isAsked cX6_isAsked 3 (some .boolean) 2 := ⟨q1764, qs52, q1765, by decide +kernel⟩
set_option maxHeartbeats 4000000 in
theorem met_isAsked (l : Launch) (a1 : Int32) (a2 : Int32) (S : MS) (K : Int32 → MS → Prop) (hs : m_isAsked a1 a2 S K) : mMetz l yX6_isAsked cX6_isAsked 3 0 0 S (fun ad => [.int a1, .int a2]) K := by
  intro D dT h ad sz
  refine mEnter (Qc := mQz D dT h ad K) (by decide) rfl (by rfl) ?_
  intro p e s m args below meth c A ls X hK hA hM hl
  have hx := X.1
  have hb := X.2.1
  have hts := X.2.2.2.2.1
  have hown := X.2.2.2.2.2.1
  have hl : lv_has ls 3 [(0, .ref h), (1, .int a1), (2, .int a2)] := hl
  unfold m_isAsked at hs
  refine lv_iload_n hx hb dX6_isAsked_0 rfl (lv_at hl 2 rfl) ?_
  refine lv_iload_n hx hb dX6_isAsked_1 rfl (lv_at hl 1 rfl) ?_
  refine lv_iconst (v := 2) hx hb dX6_isAsked_2 (by decide) ?_
  obtain ⟨k11_1, hk11_1, hs⟩ := jn_ex hs
  have Ek11_1 : ∀ (v1 : Int32) (H : Heap) (locs : List Loc) (ls : Array Slot), k11_1 v1 → mI D dT A s.heap h ad S H locs → lv_has ls 3 [(1, .int a1), (2, .int a2)] → W p l e (mRm 0 0) s m args below meth c H locs 0 0 (MQ below (mQz D dT h ad K A) args s 0 0 A) (F0 m 11 ls [.int v1, .int a2]) := by
    intro v1 H locs ls hs hM hl
    rw [hk11_1] at hs
    refine lv_icmp_lt (tgt := 54) hx hb dX6_isAsked_11 (by decide) (fun c8 => ?_) (fun c8 => ?_)
    · replace hs := ifp c8 hs
      refine lv_iconst (v := 0) hx hb dX6_isAsked_54 (by decide) ?_
      exact m_retz X hK hM isB0 hs dX6_isAsked_55
    · replace hs := ifn c8 hs
      refine lv_iload_n hx hb dX6_isAsked_14 rfl (lv_at hl 1 rfl) ?_
      refine lv_iload_n hx hb dX6_isAsked_15 rfl (lv_at hl 0 rfl) ?_
      refine lv_if_ne (tgt := 25) hx hb dX6_isAsked_16 (by decide) (fun c7 => ?_) (fun c7 => ?_)
      · replace hs := ifn c7 hs
        refine lv_iload_n hx hb dX6_isAsked_25 rfl (lv_at hl 0 rfl) ?_
        refine lv_iconst (v := 1) hx hb dX6_isAsked_26 (by decide) ?_
        refine lv_icmp_ne (tgt := 35) hx hb dX6_isAsked_27 (by decide) (fun c5 => ?_) (fun c5 => ?_)
        · replace hs := ifn c5 hs
          refine lv_iload_n hx hb dX6_isAsked_35 rfl (lv_at hl 0 rfl) ?_
          refine lv_iconst (v := 2) hx hb dX6_isAsked_36 (by decide) ?_
          refine lv_icmp_ne (tgt := 45) hx hb dX6_isAsked_37 (by decide) (fun c3 => ?_) (fun c3 => ?_)
          · replace hs := ifn c3 hs
            refine lv_bipush (v := 60) hx hb dX6_isAsked_45 (by decide) ?_
            refine lv_icmp_gt (tgt := 54) hx hb dX6_isAsked_47 (by decide) (fun c1 => ?_) (fun c1 => ?_)
            · replace hs := ifp c1 hs
              refine lv_iconst (v := 0) hx hb dX6_isAsked_54 (by decide) ?_
              exact m_retz X hK hM isB0 hs dX6_isAsked_55
            · replace hs := ifn c1 hs
              refine lv_iconst (v := 1) hx hb dX6_isAsked_50 (by decide) ?_
              refine lv_goto (tgt := 55) hx hb dX6_isAsked_51 (by decide) ?_
              exact m_retz X hK hM isB1 hs dX6_isAsked_55
          · replace hs := ifp c3 hs
            refine lv_bipush (v := 9) hx hb dX6_isAsked_40 (by decide) ?_
            refine lv_goto (tgt := 47) hx hb dX6_isAsked_42 (by decide) ?_
            refine lv_icmp_gt (tgt := 54) hx hb dX6_isAsked_47 (by decide) (fun c2 => ?_) (fun c2 => ?_)
            · replace hs := ifp c2 hs
              refine lv_iconst (v := 0) hx hb dX6_isAsked_54 (by decide) ?_
              exact m_retz X hK hM isB0 hs dX6_isAsked_55
            · replace hs := ifn c2 hs
              refine lv_iconst (v := 1) hx hb dX6_isAsked_50 (by decide) ?_
              refine lv_goto (tgt := 55) hx hb dX6_isAsked_51 (by decide) ?_
              exact m_retz X hK hM isB1 hs dX6_isAsked_55
        · replace hs := ifp c5 hs
          refine lv_bipush (v := 20) hx hb dX6_isAsked_30 (by decide) ?_
          refine lv_goto (tgt := 47) hx hb dX6_isAsked_32 (by decide) ?_
          refine lv_icmp_gt (tgt := 54) hx hb dX6_isAsked_47 (by decide) (fun c4 => ?_) (fun c4 => ?_)
          · replace hs := ifp c4 hs
            refine lv_iconst (v := 0) hx hb dX6_isAsked_54 (by decide) ?_
            exact m_retz X hK hM isB0 hs dX6_isAsked_55
          · replace hs := ifn c4 hs
            refine lv_iconst (v := 1) hx hb dX6_isAsked_50 (by decide) ?_
            refine lv_goto (tgt := 55) hx hb dX6_isAsked_51 (by decide) ?_
            exact m_retz X hK hM isB1 hs dX6_isAsked_55
      · replace hs := ifp c7 hs
        refine lv_sipush (v := 200) hx hb dX6_isAsked_19 (by decide) ?_
        refine lv_goto (tgt := 47) hx hb dX6_isAsked_22 (by decide) ?_
        refine lv_icmp_gt (tgt := 54) hx hb dX6_isAsked_47 (by decide) (fun c6 => ?_) (fun c6 => ?_)
        · replace hs := ifp c6 hs
          refine lv_iconst (v := 0) hx hb dX6_isAsked_54 (by decide) ?_
          exact m_retz X hK hM isB0 hs dX6_isAsked_55
        · replace hs := ifn c6 hs
          refine lv_iconst (v := 1) hx hb dX6_isAsked_50 (by decide) ?_
          refine lv_goto (tgt := 55) hx hb dX6_isAsked_51 (by decide) ?_
          exact m_retz X hK hM isB1 hs dX6_isAsked_55
  refine lv_icmp_ge (tgt := 10) hx hb dX6_isAsked_3 (by decide) (fun c9 => ?_) (fun c9 => ?_)
  · replace hs := ifp c9 hs
    refine lv_iconst (v := 0) hx hb dX6_isAsked_10 (by decide) ?_
    exact Ek11_1 _ _ _ _ hs hM (lv_sub hl [1, 2] rfl)
  · replace hs := ifn c9 hs
    refine lv_iconst (v := 1) hx hb dX6_isAsked_6 (by decide) ?_
    refine lv_goto (tgt := 11) hx hb dX6_isAsked_7 (by decide) ?_
    exact Ek11_1 _ _ _ _ hs hM (lv_sub hl [1, 2] rfl)
def m_tells (a1 : Int32) (a2 : Int32) (S : MS) (K : MS → Prop) : Prop := (if a1 = 0 then K (mset S 2 a2) else if a1 = 1 then K (mset S 3 a2) else if a1 = 2 then K (mset S 4 a2) else K (mset S 5 a2))
theorem iX6_tells : mInf yX6_tells cX6_tells 3 none 2 := ⟨q1772, qs54, q1773, by decide +kernel⟩
set_option maxHeartbeats 4000000 in
theorem met_tells (l : Launch) (a1 : Int32) (a2 : Int32) (S : MS) (K : MS → Prop) (hs : m_tells a1 a2 S K) : mMetv l yX6_tells cX6_tells 3 0 0 S (fun ad => [.int a1, .int a2]) K := by
  intro D dT h ad sz
  refine mEnter (Qc := mQv D dT h ad K) (by decide) rfl (by rfl) ?_
  intro p e s m args below meth c A ls X hK hA hM hl
  have hx := X.1
  have hb := X.2.1
  have hts := X.2.2.2.2.1
  have hown := X.2.2.2.2.2.1
  have hl : lv_has ls 3 [(0, .ref h), (1, .int a1), (2, .int a2)] := hl
  unfold m_tells at hs
  refine lv_iload_n hx hb dX6_tells_0 rfl (lv_at hl 1 rfl) ?_
  by_cases c0_0 : a1 = 0
  · replace hs := ifp c0_0 hs
    refine lv_tableIn (tgt := 28) hx hb dX6_tells_1 (by rw [c0_0]; decide) (by rw [c0_0]; decide) (by rw [c0_0]; rfl) (by decide) ?_
    refine lv_aload_n hx hb dX6_tells_28 rfl (lv_at hl 0 rfl) ?_
    refine lv_iload_n hx hb dX6_tells_29 rfl (lv_at hl 2 rfl) ?_
    refine m_puti X hK hM 2 q1478 rfl rfl rfl rfl rfl rfl dX6_tells_30 (fun H locs hM => ?_)
    refine lv_goto (tgt := 57) hx hb dX6_tells_33 (by decide) ?_
    exact m_retv X hK hM hs dX6_tells_57
  · replace hs := ifn c0_0 hs
    by_cases c0_1 : a1 = 1
    · replace hs := ifp c0_1 hs
      refine lv_tableIn (tgt := 36) hx hb dX6_tells_1 (by rw [c0_1]; decide) (by rw [c0_1]; decide) (by rw [c0_1]; rfl) (by decide) ?_
      refine lv_aload_n hx hb dX6_tells_36 rfl (lv_at hl 0 rfl) ?_
      refine lv_iload_n hx hb dX6_tells_37 rfl (lv_at hl 2 rfl) ?_
      refine m_puti X hK hM 3 q1479 rfl rfl rfl rfl rfl rfl dX6_tells_38 (fun H locs hM => ?_)
      refine lv_goto (tgt := 57) hx hb dX6_tells_41 (by decide) ?_
      exact m_retv X hK hM hs dX6_tells_57
    · replace hs := ifn c0_1 hs
      by_cases c0_2 : a1 = 2
      · replace hs := ifp c0_2 hs
        refine lv_tableIn (tgt := 44) hx hb dX6_tells_1 (by rw [c0_2]; decide) (by rw [c0_2]; decide) (by rw [c0_2]; rfl) (by decide) ?_
        refine lv_aload_n hx hb dX6_tells_44 rfl (lv_at hl 0 rfl) ?_
        refine lv_iload_n hx hb dX6_tells_45 rfl (lv_at hl 2 rfl) ?_
        refine m_puti X hK hM 4 q1480 rfl rfl rfl rfl rfl rfl dX6_tells_46 (fun H locs hM => ?_)
        refine lv_goto (tgt := 57) hx hb dX6_tells_49 (by decide) ?_
        exact m_retv X hK hM hs dX6_tells_57
      · replace hs := ifn c0_2 hs
        refine lv_tableOut (tgt := 52) hx hb dX6_tells_1 (sw_out (fun k h1 h2 => by
          have h3 : k = 0 ∨ k = 1 ∨ k = 2 := by omega
          rcases h3 with rfl | rfl | rfl
          · exact lv_neT c0_0 rfl
          · exact lv_neT c0_1 rfl
          · exact lv_neT c0_2 rfl
          )) (by decide) ?_
        refine lv_aload_n hx hb dX6_tells_52 rfl (lv_at hl 0 rfl) ?_
        refine lv_iload_n hx hb dX6_tells_53 rfl (lv_at hl 2 rfl) ?_
        refine m_puti X hK hM 5 q1481 rfl rfl rfl rfl rfl rfl dX6_tells_54 (fun H locs hM => ?_)
        exact m_retv X hK hM hs dX6_tells_57
def m_told (a1 : Int32) (S : MS) (K : Int32 → MS → Prop) : Prop := (if a1 = 0 then K (S.1 2) S else (if a1 = 1 then K (S.1 3) S else (if a1 = 2 then K (S.1 4) S else K (S.1 5) S)))
theorem iX6_told : mInf yX6_told cX6_told 2 (some .int) 1 := ⟨q1768, qs53, q1769, by decide +kernel⟩
set_option maxHeartbeats 4000000 in
theorem met_told (l : Launch) (a1 : Int32) (S : MS) (K : Int32 → MS → Prop) (hs : m_told a1 S K) : mMeti l yX6_told cX6_told 2 0 0 S (fun ad => [.int a1]) K := by
  intro D dT h ad sz
  refine mEnter (Qc := mQi D dT h ad K) (by decide) rfl (by rfl) ?_
  intro p e s m args below meth c A ls X hK hA hM hl
  have hx := X.1
  have hb := X.2.1
  have hts := X.2.2.2.2.1
  have hown := X.2.2.2.2.2.1
  have hl : lv_has ls 2 [(0, .ref h), (1, .int a1)] := hl
  unfold m_told at hs
  refine lv_iload_n hx hb dX6_told_0 rfl (lv_at hl 1 rfl) ?_
  refine lv_if_ne (tgt := 11) hx hb dX6_told_1 (by decide) (fun c2 => ?_) (fun c2 => ?_)
  · replace hs := ifn c2 hs
    refine lv_iload_n hx hb dX6_told_11 rfl (lv_at hl 1 rfl) ?_
    refine lv_iconst (v := 1) hx hb dX6_told_12 (by decide) ?_
    refine lv_icmp_ne (tgt := 23) hx hb dX6_told_13 (by decide) (fun c1 => ?_) (fun c1 => ?_)
    · replace hs := ifn c1 hs
      refine lv_iload_n hx hb dX6_told_23 rfl (lv_at hl 1 rfl) ?_
      refine lv_iconst (v := 2) hx hb dX6_told_24 (by decide) ?_
      refine lv_icmp_ne (tgt := 35) hx hb dX6_told_25 (by decide) (fun c0 => ?_) (fun c0 => ?_)
      · replace hs := ifn c0 hs
        refine lv_aload_n hx hb dX6_told_35 rfl (lv_at hl 0 rfl) ?_
        refine m_geti (v := .int (S.1 5)) X hK hM 5 q1481 rfl rfl rfl dX6_told_36 ?_
        exact m_reti X hK hM hs dX6_told_39
      · replace hs := ifp c0 hs
        refine lv_aload_n hx hb dX6_told_28 rfl (lv_at hl 0 rfl) ?_
        refine m_geti (v := .int (S.1 4)) X hK hM 4 q1480 rfl rfl rfl dX6_told_29 ?_
        refine lv_goto (tgt := 39) hx hb dX6_told_32 (by decide) ?_
        exact m_reti X hK hM hs dX6_told_39
    · replace hs := ifp c1 hs
      refine lv_aload_n hx hb dX6_told_16 rfl (lv_at hl 0 rfl) ?_
      refine m_geti (v := .int (S.1 3)) X hK hM 3 q1479 rfl rfl rfl dX6_told_17 ?_
      refine lv_goto (tgt := 39) hx hb dX6_told_20 (by decide) ?_
      exact m_reti X hK hM hs dX6_told_39
  · replace hs := ifp c2 hs
    refine lv_aload_n hx hb dX6_told_4 rfl (lv_at hl 0 rfl) ?_
    refine m_geti (v := .int (S.1 2)) X hK hM 2 q1478 rfl rfl rfl dX6_told_5 ?_
    refine lv_goto (tgt := 39) hx hb dX6_told_8 (by decide) ?_
    exact m_reti X hK hM hs dX6_told_39
def m_ask (a1 : Int32) (a2 : Int32) (S : MS) (K : Int32 → MS → Prop) : Prop := jn (fun (S1 : MS) => m_no (-6) S1 (fun r3 S2 => K r3 S2)) (fun k18_1 => (if a1 < 0 then k18_1 S else (if 3 < a1 then k18_1 S else m_isAsked a1 a2 S (fun r5 S4 => (if r5 = 0 then k18_1 S4 else m_told a1 S4 (fun r7 S6 => m_tells a1 a2 S6 (fun S8 => K r7 S8)))))))
theorem iX6_ask : mInf yX6_ask cX6_ask 4 (some .int) 2 := ⟨q1759, q1760, q1761, by decide +kernel⟩
set_option maxHeartbeats 4000000 in
theorem met_ask (l : Launch) (a1 : Int32) (a2 : Int32) (S : MS) (K : Int32 → MS → Prop) (hs : m_ask a1 a2 S K) : mMeti l yX6_ask cX6_ask 4 1 22 S (fun ad => [.int a1, .int a2]) K := by
  intro D dT h ad sz
  refine mEnter (Qc := mQi D dT h ad K) (by decide) rfl (by rfl) ?_
  intro p e s m args below meth c A ls X hK hA hM hl
  have hx := X.1
  have hb := X.2.1
  have hts := X.2.2.2.2.1
  have hown := X.2.2.2.2.2.1
  have hl : lv_has ls 4 [(0, .ref h), (1, .int a1), (2, .int a2)] := hl
  unfold m_ask at hs
  refine lv_iload_n hx hb dX6_ask_0 rfl (lv_at hl 1 rfl) ?_
  obtain ⟨k18_1, hk18_1, hs⟩ := jn_ex hs
  have Ek18_1 : ∀ (S1 : MS) (H : Heap) (locs : List Loc) (ls : Array Slot), k18_1 S1 → mI D dT A s.heap h ad S1 H locs → lv_has ls 4 [(0, .ref h)] → W p l e (mRm 1 22) s m args below meth c H locs 0 0 (MQ below (mQi D dT h ad K A) args s 0 0 A) (F0 m 18 ls []) := by
    intro S1 H locs ls hs hM hl
    rw [hk18_1] at hs
    refine lv_aload_n hx hb dX6_ask_18 rfl (lv_at hl 0 rfl) ?_
    refine lv_bipush (v := (-6)) hx hb dX6_ask_19 (by decide) ?_
    refine m_calli (rest := []) (av := fun ad => [.int (-6)]) X hK hA hM (met_no l (-6) _ _ hs) iX6_no q1662 ⟨Nat.le_of_ble_eq_true rfl, Nat.le_of_ble_eq_true rfl⟩ rfl hl.1 rfl (Nat.le_of_ble_eq_true rfl) dX6_ask_21 (fun r3 S2 H locs hs hM => ?_)
    exact m_reti X hK hM hs dX6_ask_24
  refine lv_if_lt (tgt := 18) hx hb dX6_ask_1 (by decide) (fun c10 => ?_) (fun c10 => ?_)
  · replace hs := ifp c10 hs
    exact Ek18_1 _ _ _ _ hs hM (lv_sub hl [0] rfl)
  · replace hs := ifn c10 hs
    refine lv_iload_n hx hb dX6_ask_4 rfl (lv_at hl 1 rfl) ?_
    refine lv_iconst (v := 3) hx hb dX6_ask_5 (by decide) ?_
    refine lv_icmp_gt (tgt := 18) hx hb dX6_ask_6 (by decide) (fun c9 => ?_) (fun c9 => ?_)
    · replace hs := ifp c9 hs
      exact Ek18_1 _ _ _ _ hs hM (lv_sub hl [0] rfl)
    · replace hs := ifn c9 hs
      refine lv_aload_n hx hb dX6_ask_9 rfl (lv_at hl 0 rfl) ?_
      refine lv_iload_n hx hb dX6_ask_10 rfl (lv_at hl 1 rfl) ?_
      refine lv_iload_n hx hb dX6_ask_11 rfl (lv_at hl 2 rfl) ?_
      refine m_callz (rest := []) (av := fun ad => [.int a1, .int a2]) X hK hA hM (met_isAsked l a1 a2 _ _ hs) iX6_isAsked q1762 ⟨Nat.le_of_ble_eq_true rfl, Nat.le_of_ble_eq_true rfl⟩ rfl hl.1 rfl (Nat.le_of_ble_eq_true rfl) dX6_ask_12 (fun r5 S4 H locs br5 hs hM => ?_)
      refine lv_if_ne (tgt := 25) hx hb dX6_ask_15 (by decide) (fun c8 => ?_) (fun c8 => ?_)
      · replace hs := ifn c8 hs
        refine lv_aload_n hx hb dX6_ask_25 rfl (lv_at hl 0 rfl) ?_
        refine lv_iload_n hx hb dX6_ask_26 rfl (lv_at hl 1 rfl) ?_
        refine m_calli (rest := []) (av := fun ad => [.int a1]) X hK hA hM (met_told l a1 _ _ hs) iX6_told q1766 ⟨Nat.le_of_ble_eq_true rfl, Nat.le_of_ble_eq_true rfl⟩ rfl hl.1 rfl (Nat.le_of_ble_eq_true rfl) dX6_ask_27 (fun r7 S6 H locs hs hM => ?_)
        refine lv_istore_n (lv' := [(3, .int r7), (0, .ref h), (1, .int a1), (2, .int a2)]) hx hb dX6_ask_30 rfl hl (by decide) rfl (fun ls hl => ?_)
        refine lv_aload_n hx hb dX6_ask_31 rfl (lv_at hl 1 rfl) ?_
        refine lv_iload_n hx hb dX6_ask_32 rfl (lv_at hl 2 rfl) ?_
        refine lv_iload_n hx hb dX6_ask_33 rfl (lv_at hl 3 rfl) ?_
        refine m_callv (rest := []) (av := fun ad => [.int a1, .int a2]) X hK hA hM (met_tells l a1 a2 _ _ hs) iX6_tells q1770 ⟨Nat.le_of_ble_eq_true rfl, Nat.le_of_ble_eq_true rfl⟩ rfl hl.1 rfl (Nat.le_of_ble_eq_true rfl) dX6_ask_34 (fun S8 H locs hs hM => ?_)
        refine lv_iload_n hx hb dX6_ask_37 rfl (lv_at hl 0 rfl) ?_
        exact m_reti X hK hM hs dX6_ask_38
      · replace hs := ifp c8 hs
        exact Ek18_1 _ _ _ _ hs hM (lv_sub hl [0] rfl)
def m_roll (a1 : Int32) (S : MS) (K : Int32 → MS → Prop) : Prop := (if a1 = 0 then K (S.1 6) (mset S 6 0) else K (S.1 6) (mset S 6 1))
theorem iX6_roll : mInf yX6_roll cX6_roll 3 (some .int) 1 := ⟨q1775, q1776, q1777, by decide +kernel⟩
set_option maxHeartbeats 4000000 in
theorem met_roll (l : Launch) (a1 : Int32) (S : MS) (K : Int32 → MS → Prop) (hs : m_roll a1 S K) : mMeti l yX6_roll cX6_roll 3 0 0 S (fun ad => [.int a1]) K := by
  intro D dT h ad sz
  refine mEnter (Qc := mQi D dT h ad K) (by decide) rfl (by rfl) ?_
  intro p e s m args below meth c A ls X hK hA hM hl
  have hx := X.1
  have hb := X.2.1
  have hts := X.2.2.2.2.1
  have hown := X.2.2.2.2.2.1
  have hl : lv_has ls 3 [(0, .ref h), (1, .int a1)] := hl
  unfold m_roll at hs
  refine lv_aload_n hx hb dX6_roll_0 rfl (lv_at hl 0 rfl) ?_
  refine m_geti (v := .int (S.1 6)) X hK hM 6 q1482 rfl rfl rfl dX6_roll_1 ?_
  refine lv_istore_n (lv' := [(2, .int (S.1 6)), (0, .ref h), (1, .int a1)]) hx hb dX6_roll_4 rfl hl (by decide) rfl (fun ls hl => ?_)
  refine lv_aload_n hx hb dX6_roll_5 rfl (lv_at hl 1 rfl) ?_
  refine lv_iload_n hx hb dX6_roll_6 rfl (lv_at hl 2 rfl) ?_
  refine lv_if_eq (tgt := 14) hx hb dX6_roll_7 (by decide) (fun c0 => ?_) (fun c0 => ?_)
  · replace hs := ifp c0 hs
    refine lv_iconst (v := 0) hx hb dX6_roll_14 (by decide) ?_
    refine m_puti X hK hM 6 q1482 rfl rfl rfl rfl rfl rfl dX6_roll_15 (fun H locs hM => ?_)
    refine lv_iload_n hx hb dX6_roll_18 rfl (lv_at hl 0 rfl) ?_
    exact m_reti X hK hM hs dX6_roll_19
  · replace hs := ifn c0 hs
    refine lv_iconst (v := 1) hx hb dX6_roll_10 (by decide) ?_
    refine lv_goto (tgt := 15) hx hb dX6_roll_11 (by decide) ?_
    refine m_puti X hK hM 6 q1482 rfl rfl rfl rfl rfl rfl dX6_roll_15 (fun H locs hM => ?_)
    refine lv_iload_n hx hb dX6_roll_18 rfl (lv_at hl 0 rfl) ?_
    exact m_reti X hK hM hs dX6_roll_19
