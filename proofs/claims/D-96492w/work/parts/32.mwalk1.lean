set_option maxRecDepth 100000
def m_abs (a1 : Int32) (S : MS) (K : Int32 → MS → Prop) : Prop := (if 0 ≤ a1 then K a1 S else K (-a1) S)
theorem iX6_abs : mInf yX6_abs cX6_abs 2 (some .int) 1 := ⟨q1704, qs44, q1705, by decide +kernel⟩
set_option maxHeartbeats 4000000 in
theorem met_abs (l : Launch) (a1 : Int32) (S : MS) (K : Int32 → MS → Prop) (hs : m_abs a1 S K) : mMeti l yX6_abs cX6_abs 2 0 0 S (fun ad => [.int a1]) K := by
  intro D dT h ad sz
  refine mEnter (Qc := mQi D dT h ad K) (by decide) rfl (by rfl) ?_
  intro p e s m args below meth c A ls X hK hA hM hl
  have hx := X.1
  have hb := X.2.1
  have hts := X.2.2.2.2.1
  have hown := X.2.2.2.2.2.1
  have hl : lv_has ls 2 [(0, .ref h), (1, .int a1)] := hl
  unfold m_abs at hs
  refine lv_iload_n hx hb dX6_abs_0 rfl (lv_at hl 1 rfl) ?_
  refine lv_if_ge (tgt := 9) hx hb dX6_abs_1 (by decide) (fun c0 => ?_) (fun c0 => ?_)
  · replace hs := ifp c0 hs
    refine lv_iload_n hx hb dX6_abs_9 rfl (lv_at hl 1 rfl) ?_
    exact m_reti X hK hM hs dX6_abs_10
  · replace hs := ifn c0 hs
    refine lv_iload_n hx hb dX6_abs_4 rfl (lv_at hl 1 rfl) ?_
    refine lv_ineg hx hb dX6_abs_5 ?_
    refine lv_goto (tgt := 10) hx hb dX6_abs_6 (by decide) ?_
    exact m_reti X hK hM hs dX6_abs_10
def m_putsIn (a1 : Int32) (S : MS) (K : MS → Prop) : Prop := jn (fun (v1 : Int32) (S2 : MS) => (if (S2.1 1) = 0 then K (mset (mset S2 38 v1) 39 0) else obd (mald (mset S2 38 v1) 18 a1) (fun v3 => K (mset (mset S2 38 v1) 39 v3)))) (fun k27_2 => (if (S.1 1) = 0 then k27_2 0 S else obd (mald S 17 a1) (fun v5 => m_abs (v5 - (S.1 37)) S (fun r7 S6 => k27_2 r7 S6))))
theorem iX6_putsIn : mInf yX6_putsIn cX6_putsIn 2 none 1 := ⟨q1700, qs43, q1701, by decide +kernel⟩
set_option maxHeartbeats 4000000 in
theorem met_putsIn (l : Launch) (a1 : Int32) (S : MS) (K : MS → Prop) (hs : m_putsIn a1 S K) : mMetv l yX6_putsIn cX6_putsIn 2 1 21 S (fun ad => [.int a1]) K := by
  intro D dT h ad sz
  refine mEnter (Qc := mQv D dT h ad K) (by decide) rfl (by rfl) ?_
  intro p e s m args below meth c A ls X hK hA hM hl
  have hx := X.1
  have hb := X.2.1
  have hts := X.2.2.2.2.1
  have hown := X.2.2.2.2.2.1
  have hl : lv_has ls 2 [(0, .ref h), (1, .int a1)] := hl
  unfold m_putsIn at hs
  refine lv_aload_n hx hb dX6_putsIn_0 rfl (lv_at hl 0 rfl) ?_
  refine lv_aload_n hx hb dX6_putsIn_1 rfl (lv_at hl 0 rfl) ?_
  refine m_geti (v := .int (S.1 1)) X hK hM 1 q1477 rfl rfl rfl dX6_putsIn_2 ?_
  obtain ⟨k27_2, hk27_2, hs⟩ := jn_ex hs
  have Ek27_2 : ∀ (v1 : Int32) (S2 : MS) (H : Heap) (locs : List Loc) (ls : Array Slot), k27_2 v1 S2 → mI D dT A s.heap h ad S2 H locs → lv_has ls 2 [(0, .ref h), (1, .int a1)] → W p l e (mRm 1 21) s m args below meth c H locs 0 0 (MQ below (mQv D dT h ad K A) args s 0 0 A) (F0 m 27 ls [.int v1, .ref h]) := by
    intro v1 S2 H locs ls hs hM hl
    rw [hk27_2] at hs
    refine m_puti X hK hM 38 q1514 rfl rfl rfl rfl rfl rfl dX6_putsIn_27 (fun H locs hM => ?_)
    refine lv_aload_n hx hb dX6_putsIn_30 rfl (lv_at hl 0 rfl) ?_
    refine lv_aload_n hx hb dX6_putsIn_31 rfl (lv_at hl 0 rfl) ?_
    refine m_geti (v := .int (S2.1 1)) X hK hM 1 q1477 rfl rfl rfl dX6_putsIn_32 ?_
    refine lv_if_ne (tgt := 42) hx hb dX6_putsIn_35 (by decide) (fun c3 => ?_) (fun c3 => ?_)
    · replace hs := ifn c3 hs
      refine lv_aload_n hx hb dX6_putsIn_42 rfl (lv_at hl 0 rfl) ?_
      refine m_geti (v := .ref (ad 18)) X hK hM 18 q1494 rfl rfl rfl dX6_putsIn_43 ?_
      refine lv_iload_n hx hb dX6_putsIn_46 rfl (lv_at hl 1 rfl) ?_
      obtain ⟨v3, ev3, hs⟩ := hs
      refine m_iald X hK hM rfl ev3 dX6_putsIn_47 ?_
      refine m_puti X hK hM 39 q1515 rfl rfl rfl rfl rfl rfl dX6_putsIn_48 (fun H locs hM => ?_)
      exact m_retv X hK hM hs dX6_putsIn_51
    · replace hs := ifp c3 hs
      refine lv_iconst (v := 0) hx hb dX6_putsIn_38 (by decide) ?_
      refine lv_goto (tgt := 48) hx hb dX6_putsIn_39 (by decide) ?_
      refine m_puti X hK hM 39 q1515 rfl rfl rfl rfl rfl rfl dX6_putsIn_48 (fun H locs hM => ?_)
      exact m_retv X hK hM hs dX6_putsIn_51
  refine lv_if_ne (tgt := 12) hx hb dX6_putsIn_5 (by decide) (fun c7 => ?_) (fun c7 => ?_)
  · replace hs := ifn c7 hs
    refine lv_aload_n hx hb dX6_putsIn_12 rfl (lv_at hl 0 rfl) ?_
    refine lv_aload_n hx hb dX6_putsIn_13 rfl (lv_at hl 0 rfl) ?_
    refine m_geti (v := .ref (ad 17)) X hK hM 17 q1493 rfl rfl rfl dX6_putsIn_14 ?_
    refine lv_iload_n hx hb dX6_putsIn_17 rfl (lv_at hl 1 rfl) ?_
    obtain ⟨v5, ev5, hs⟩ := hs
    refine m_iald X hK hM rfl ev5 dX6_putsIn_18 ?_
    refine lv_aload_n hx hb dX6_putsIn_19 rfl (lv_at hl 0 rfl) ?_
    refine m_geti (v := .int (S.1 37)) X hK hM 37 q1513 rfl rfl rfl dX6_putsIn_20 ?_
    refine lv_isub hx hb dX6_putsIn_23 ?_
    refine m_calli (rest := [.ref h]) (av := fun ad => [.int (v5 - (S.1 37))]) X hK hA hM (met_abs l (v5 - (S.1 37)) _ _ hs) iX6_abs q1702 ⟨Nat.le_of_ble_eq_true rfl, Nat.le_of_ble_eq_true rfl⟩ rfl hl.1 rfl (Nat.le_of_ble_eq_true rfl) dX6_putsIn_24 (fun r7 S6 H locs hs hM => ?_)
    exact Ek27_2 _ _ _ _ _ hs hM hl
  · replace hs := ifp c7 hs
    refine lv_iconst (v := 0) hx hb dX6_putsIn_8 (by decide) ?_
    refine lv_goto (tgt := 27) hx hb dX6_putsIn_9 (by decide) ?_
    exact Ek27_2 _ _ _ _ _ hs hM hl
def m_puts (a1 : Int32) (S : MS) (K : MS → Prop) : Prop := obd (mald S 11 a1) (fun v1 => obd (mald (mset S 35 v1) 12 a1) (fun v2 => obd (mald (mset (mset S 35 v1) 36 v2) 13 a1) (fun v3 => obd (mald (mset (mset (mset S 35 v1) 36 v2) 37 v3) 15 a1) (fun v4 => obd (mald (mset (mset (mset (mset (mset S 35 v1) 36 v2) 37 v3) 40 v4) 41 (S.1 6)) 14 a1) (fun v5 => m_putsIn v5 (mset (mset (mset (mset (mset S 35 v1) 36 v2) 37 v3) 40 v4) 41 (S.1 6)) (fun S6 => K S6))))))
theorem iX6_puts : mInf yX6_puts cX6_puts 2 none 1 := ⟨q1696, qs42, q1697, by decide +kernel⟩
set_option maxHeartbeats 4000000 in
theorem met_puts (l : Launch) (a1 : Int32) (S : MS) (K : MS → Prop) (hs : m_puts a1 S K) : mMetv l yX6_puts cX6_puts 2 2 42 S (fun ad => [.int a1]) K := by
  intro D dT h ad sz
  refine mEnter (Qc := mQv D dT h ad K) (by decide) rfl (by rfl) ?_
  intro p e s m args below meth c A ls X hK hA hM hl
  have hx := X.1
  have hb := X.2.1
  have hts := X.2.2.2.2.1
  have hown := X.2.2.2.2.2.1
  have hl : lv_has ls 2 [(0, .ref h), (1, .int a1)] := hl
  unfold m_puts at hs
  refine lv_aload_n hx hb dX6_puts_0 rfl (lv_at hl 0 rfl) ?_
  refine lv_aload_n hx hb dX6_puts_1 rfl (lv_at hl 0 rfl) ?_
  refine m_geti (v := .ref (ad 11)) X hK hM 11 q1487 rfl rfl rfl dX6_puts_2 ?_
  refine lv_iload_n hx hb dX6_puts_5 rfl (lv_at hl 1 rfl) ?_
  obtain ⟨v1, ev1, hs⟩ := hs
  refine m_iald X hK hM rfl ev1 dX6_puts_6 ?_
  refine m_puti X hK hM 35 q1511 rfl rfl rfl rfl rfl rfl dX6_puts_7 (fun H locs hM => ?_)
  refine lv_aload_n hx hb dX6_puts_10 rfl (lv_at hl 0 rfl) ?_
  refine lv_aload_n hx hb dX6_puts_11 rfl (lv_at hl 0 rfl) ?_
  refine m_geti (v := .ref (ad 12)) X hK hM 12 q1488 rfl rfl rfl dX6_puts_12 ?_
  refine lv_iload_n hx hb dX6_puts_15 rfl (lv_at hl 1 rfl) ?_
  obtain ⟨v2, ev2, hs⟩ := hs
  refine m_iald X hK hM rfl ev2 dX6_puts_16 ?_
  refine m_puti X hK hM 36 q1512 rfl rfl rfl rfl rfl rfl dX6_puts_17 (fun H locs hM => ?_)
  refine lv_aload_n hx hb dX6_puts_20 rfl (lv_at hl 0 rfl) ?_
  refine lv_aload_n hx hb dX6_puts_21 rfl (lv_at hl 0 rfl) ?_
  refine m_geti (v := .ref (ad 13)) X hK hM 13 q1489 rfl rfl rfl dX6_puts_22 ?_
  refine lv_iload_n hx hb dX6_puts_25 rfl (lv_at hl 1 rfl) ?_
  obtain ⟨v3, ev3, hs⟩ := hs
  refine m_iald X hK hM rfl ev3 dX6_puts_26 ?_
  refine m_puti X hK hM 37 q1513 rfl rfl rfl rfl rfl rfl dX6_puts_27 (fun H locs hM => ?_)
  refine lv_aload_n hx hb dX6_puts_30 rfl (lv_at hl 0 rfl) ?_
  refine lv_aload_n hx hb dX6_puts_31 rfl (lv_at hl 0 rfl) ?_
  refine m_geti (v := .ref (ad 15)) X hK hM 15 q1491 rfl rfl rfl dX6_puts_32 ?_
  refine lv_iload_n hx hb dX6_puts_35 rfl (lv_at hl 1 rfl) ?_
  obtain ⟨v4, ev4, hs⟩ := hs
  refine m_iald X hK hM rfl ev4 dX6_puts_36 ?_
  refine m_puti X hK hM 40 q1516 rfl rfl rfl rfl rfl rfl dX6_puts_37 (fun H locs hM => ?_)
  refine lv_aload_n hx hb dX6_puts_40 rfl (lv_at hl 0 rfl) ?_
  refine lv_aload_n hx hb dX6_puts_41 rfl (lv_at hl 0 rfl) ?_
  refine m_geti (v := .int (S.1 6)) X hK hM 6 q1482 rfl rfl rfl dX6_puts_42 ?_
  refine m_puti X hK hM 41 q1517 rfl rfl rfl rfl rfl rfl dX6_puts_45 (fun H locs hM => ?_)
  refine lv_aload_n hx hb dX6_puts_48 rfl (lv_at hl 0 rfl) ?_
  refine lv_aload_n hx hb dX6_puts_49 rfl (lv_at hl 0 rfl) ?_
  refine m_geti (v := .ref (ad 14)) X hK hM 14 q1490 rfl rfl rfl dX6_puts_50 ?_
  refine lv_iload_n hx hb dX6_puts_53 rfl (lv_at hl 1 rfl) ?_
  obtain ⟨v5, ev5, hs⟩ := hs
  refine m_iald X hK hM rfl ev5 dX6_puts_54 ?_
  refine m_callv (rest := []) (av := fun ad => [.int v5]) X hK hA hM (met_putsIn l v5 _ _ hs) iX6_putsIn q1698 ⟨Nat.le_of_ble_eq_true rfl, Nat.le_of_ble_eq_true rfl⟩ rfl hl.1 rfl (Nat.le_of_ble_eq_true rfl) dX6_puts_55 (fun S6 H locs hs hM => ?_)
  exact m_retv X hK hM hs dX6_puts_58
def m_one (a1 : Int32) (S : MS) (K : Int32 → MS → Prop) : Prop := (if 1 ≤ a1 then K a1 S else K 1 S)
theorem iX6_one : mInf yX6_one cX6_one 2 (some .int) 1 := ⟨q1716, qs47, q1717, by decide +kernel⟩
set_option maxHeartbeats 4000000 in
theorem met_one (l : Launch) (a1 : Int32) (S : MS) (K : Int32 → MS → Prop) (hs : m_one a1 S K) : mMeti l yX6_one cX6_one 2 0 0 S (fun ad => [.int a1]) K := by
  intro D dT h ad sz
  refine mEnter (Qc := mQi D dT h ad K) (by decide) rfl (by rfl) ?_
  intro p e s m args below meth c A ls X hK hA hM hl
  have hx := X.1
  have hb := X.2.1
  have hts := X.2.2.2.2.1
  have hown := X.2.2.2.2.2.1
  have hl : lv_has ls 2 [(0, .ref h), (1, .int a1)] := hl
  unfold m_one at hs
  refine lv_iload_n hx hb dX6_one_0 rfl (lv_at hl 1 rfl) ?_
  refine lv_iconst (v := 1) hx hb dX6_one_1 (by decide) ?_
  refine lv_icmp_ge (tgt := 9) hx hb dX6_one_2 (by decide) (fun c0 => ?_) (fun c0 => ?_)
  · replace hs := ifp c0 hs
    refine lv_iload_n hx hb dX6_one_9 rfl (lv_at hl 1 rfl) ?_
    exact m_reti X hK hM hs dX6_one_10
  · replace hs := ifn c0 hs
    refine lv_iconst (v := 1) hx hb dX6_one_5 (by decide) ?_
    refine lv_goto (tgt := 10) hx hb dX6_one_6 (by decide) ?_
    exact m_reti X hK hM hs dX6_one_10
def m_stride (S : MS) (K : Int32 → MS → Prop) : Prop := (if (S.1 35) = 1 then m_one ((S.1 37) - 1) S (fun r3 S2 => K r3 S2) else if (S.1 35) = 2 then K ((S.1 37) + 2) S else if (S.1 35) = 3 then K (((S.1 37) + 1) / 2) S else if (S.1 35) = 4 then m_one (((S.1 37) + 1) - (S.1 38)) S (fun r5 S4 => K r5 S4) else if (S.1 35) = 5 then K ((S.1 37) + (S.1 36)) S else if (S.1 35) = 6 then m_one ((S.1 37) - (S.1 38)) S (fun r7 S6 => K r7 S6) else K (S.1 37) S)
theorem iX6_stride : mInf yX6_stride cX6_stride 1 (some .int) 0 := ⟨q1712, qs46, q1713, by decide +kernel⟩
set_option maxHeartbeats 4000000 in
theorem met_stride (l : Launch)  (S : MS) (K : Int32 → MS → Prop) (hs : m_stride  S K) : mMeti l yX6_stride cX6_stride 1 1 21 S (fun ad => []) K := by
  intro D dT h ad sz
  refine mEnter (Qc := mQi D dT h ad K) (by decide) rfl (by rfl) ?_
  intro p e s m args below meth c A ls X hK hA hM hl
  have hx := X.1
  have hb := X.2.1
  have hts := X.2.2.2.2.1
  have hown := X.2.2.2.2.2.1
  have hl : lv_has ls 1 [(0, .ref h)] := hl
  unfold m_stride at hs
  refine lv_aload_n hx hb dX6_stride_0 rfl (lv_at hl 0 rfl) ?_
  refine m_geti (v := .int (S.1 35)) X hK hM 35 q1511 rfl rfl rfl dX6_stride_1 ?_
  by_cases c0_0 : (S.1 35) = 1
  · replace hs := ifp c0_0 hs
    refine lv_tableIn (tgt := 44) hx hb dX6_stride_4 (by rw [c0_0]; decide) (by rw [c0_0]; decide) (by rw [c0_0]; rfl) (by decide) ?_
    refine lv_aload_n hx hb dX6_stride_44 rfl (lv_at hl 0 rfl) ?_
    refine lv_aload_n hx hb dX6_stride_45 rfl (lv_at hl 0 rfl) ?_
    refine m_geti (v := .int (S.1 37)) X hK hM 37 q1513 rfl rfl rfl dX6_stride_46 ?_
    refine lv_iconst (v := 1) hx hb dX6_stride_49 (by decide) ?_
    refine lv_isub hx hb dX6_stride_50 ?_
    refine m_calli (rest := []) (av := fun ad => [.int ((S.1 37) - 1)]) X hK hA hM (met_one l ((S.1 37) - 1) _ _ hs) iX6_one q1714 ⟨Nat.le_of_ble_eq_true rfl, Nat.le_of_ble_eq_true rfl⟩ rfl hl.1 rfl (Nat.le_of_ble_eq_true rfl) dX6_stride_51 (fun r3 S2 H locs hs hM => ?_)
    exact m_reti X hK hM hs dX6_stride_54
  · replace hs := ifn c0_0 hs
    by_cases c0_1 : (S.1 35) = 2
    · replace hs := ifp c0_1 hs
      refine lv_tableIn (tgt := 55) hx hb dX6_stride_4 (by rw [c0_1]; decide) (by rw [c0_1]; decide) (by rw [c0_1]; rfl) (by decide) ?_
      refine lv_aload_n hx hb dX6_stride_55 rfl (lv_at hl 0 rfl) ?_
      refine m_geti (v := .int (S.1 37)) X hK hM 37 q1513 rfl rfl rfl dX6_stride_56 ?_
      refine lv_iconst (v := 2) hx hb dX6_stride_59 (by decide) ?_
      refine lv_iadd hx hb dX6_stride_60 ?_
      exact m_reti X hK hM hs dX6_stride_61
    · replace hs := ifn c0_1 hs
      by_cases c0_2 : (S.1 35) = 3
      · replace hs := ifp c0_2 hs
        refine lv_tableIn (tgt := 62) hx hb dX6_stride_4 (by rw [c0_2]; decide) (by rw [c0_2]; decide) (by rw [c0_2]; rfl) (by decide) ?_
        refine lv_aload_n hx hb dX6_stride_62 rfl (lv_at hl 0 rfl) ?_
        refine m_geti (v := .int (S.1 37)) X hK hM 37 q1513 rfl rfl rfl dX6_stride_63 ?_
        refine lv_iconst (v := 1) hx hb dX6_stride_66 (by decide) ?_
        refine lv_iadd hx hb dX6_stride_67 ?_
        refine lv_iconst (v := 2) hx hb dX6_stride_68 (by decide) ?_
        refine lv_idiv hx hb dX6_stride_69 (by decide) ?_
        exact m_reti X hK hM hs dX6_stride_70
      · replace hs := ifn c0_2 hs
        by_cases c0_3 : (S.1 35) = 4
        · replace hs := ifp c0_3 hs
          refine lv_tableIn (tgt := 71) hx hb dX6_stride_4 (by rw [c0_3]; decide) (by rw [c0_3]; decide) (by rw [c0_3]; rfl) (by decide) ?_
          refine lv_aload_n hx hb dX6_stride_71 rfl (lv_at hl 0 rfl) ?_
          refine lv_aload_n hx hb dX6_stride_72 rfl (lv_at hl 0 rfl) ?_
          refine m_geti (v := .int (S.1 37)) X hK hM 37 q1513 rfl rfl rfl dX6_stride_73 ?_
          refine lv_iconst (v := 1) hx hb dX6_stride_76 (by decide) ?_
          refine lv_iadd hx hb dX6_stride_77 ?_
          refine lv_aload_n hx hb dX6_stride_78 rfl (lv_at hl 0 rfl) ?_
          refine m_geti (v := .int (S.1 38)) X hK hM 38 q1514 rfl rfl rfl dX6_stride_79 ?_
          refine lv_isub hx hb dX6_stride_82 ?_
          refine m_calli (rest := []) (av := fun ad => [.int (((S.1 37) + 1) - (S.1 38))]) X hK hA hM (met_one l (((S.1 37) + 1) - (S.1 38)) _ _ hs) iX6_one q1714 ⟨Nat.le_of_ble_eq_true rfl, Nat.le_of_ble_eq_true rfl⟩ rfl hl.1 rfl (Nat.le_of_ble_eq_true rfl) dX6_stride_83 (fun r5 S4 H locs hs hM => ?_)
          exact m_reti X hK hM hs dX6_stride_86
        · replace hs := ifn c0_3 hs
          by_cases c0_4 : (S.1 35) = 5
          · replace hs := ifp c0_4 hs
            refine lv_tableIn (tgt := 87) hx hb dX6_stride_4 (by rw [c0_4]; decide) (by rw [c0_4]; decide) (by rw [c0_4]; rfl) (by decide) ?_
            refine lv_aload_n hx hb dX6_stride_87 rfl (lv_at hl 0 rfl) ?_
            refine m_geti (v := .int (S.1 37)) X hK hM 37 q1513 rfl rfl rfl dX6_stride_88 ?_
            refine lv_aload_n hx hb dX6_stride_91 rfl (lv_at hl 0 rfl) ?_
            refine m_geti (v := .int (S.1 36)) X hK hM 36 q1512 rfl rfl rfl dX6_stride_92 ?_
            refine lv_iadd hx hb dX6_stride_95 ?_
            exact m_reti X hK hM hs dX6_stride_96
          · replace hs := ifn c0_4 hs
            by_cases c0_5 : (S.1 35) = 6
            · replace hs := ifp c0_5 hs
              refine lv_tableIn (tgt := 97) hx hb dX6_stride_4 (by rw [c0_5]; decide) (by rw [c0_5]; decide) (by rw [c0_5]; rfl) (by decide) ?_
              refine lv_aload_n hx hb dX6_stride_97 rfl (lv_at hl 0 rfl) ?_
              refine lv_aload_n hx hb dX6_stride_98 rfl (lv_at hl 0 rfl) ?_
              refine m_geti (v := .int (S.1 37)) X hK hM 37 q1513 rfl rfl rfl dX6_stride_99 ?_
              refine lv_aload_n hx hb dX6_stride_102 rfl (lv_at hl 0 rfl) ?_
              refine m_geti (v := .int (S.1 38)) X hK hM 38 q1514 rfl rfl rfl dX6_stride_103 ?_
              refine lv_isub hx hb dX6_stride_106 ?_
              refine m_calli (rest := []) (av := fun ad => [.int ((S.1 37) - (S.1 38))]) X hK hA hM (met_one l ((S.1 37) - (S.1 38)) _ _ hs) iX6_one q1714 ⟨Nat.le_of_ble_eq_true rfl, Nat.le_of_ble_eq_true rfl⟩ rfl hl.1 rfl (Nat.le_of_ble_eq_true rfl) dX6_stride_107 (fun r7 S6 H locs hs hM => ?_)
              exact m_reti X hK hM hs dX6_stride_110
            · replace hs := ifn c0_5 hs
              refine lv_tableOut (tgt := 111) hx hb dX6_stride_4 (sw_out (fun k h1 h2 => by
                have h3 : k = 1 ∨ k = 2 ∨ k = 3 ∨ k = 4 ∨ k = 5 ∨ k = 6 := by omega
                rcases h3 with rfl | rfl | rfl | rfl | rfl | rfl
                · exact lv_neT c0_0 rfl
                · exact lv_neT c0_1 rfl
                · exact lv_neT c0_2 rfl
                · exact lv_neT c0_3 rfl
                · exact lv_neT c0_4 rfl
                · exact lv_neT c0_5 rfl
                )) (by decide) ?_
              refine lv_aload_n hx hb dX6_stride_111 rfl (lv_at hl 0 rfl) ?_
              refine m_geti (v := .int (S.1 37)) X hK hM 37 q1513 rfl rfl rfl dX6_stride_112 ?_
              exact m_reti X hK hM hs dX6_stride_115
def m_risk (S : MS) (K : Int32 → MS → Prop) : Prop := m_stride  S (fun r2 S1 => (if (S1.1 35) = 4 then K ((((5 * (S.1 38)) + (3 * (S.1 39))) + r2) / 2) S1 else (if (S1.1 35) = 6 then K ((((5 * (S.1 38)) + (3 * (S.1 39))) + r2) / 2) S1 else K (((5 * (S.1 38)) + (3 * (S.1 39))) + r2) S1)))
theorem iX6_risk : mInf yX6_risk cX6_risk 2 (some .int) 0 := ⟨q1720, qs48, q1721, by decide +kernel⟩
set_option maxHeartbeats 4000000 in
theorem met_risk (l : Launch)  (S : MS) (K : Int32 → MS → Prop) (hs : m_risk  S K) : mMeti l yX6_risk cX6_risk 2 2 41 S (fun ad => []) K := by
  intro D dT h ad sz
  refine mEnter (Qc := mQi D dT h ad K) (by decide) rfl (by rfl) ?_
  intro p e s m args below meth c A ls X hK hA hM hl
  have hx := X.1
  have hb := X.2.1
  have hts := X.2.2.2.2.1
  have hown := X.2.2.2.2.2.1
  have hl : lv_has ls 2 [(0, .ref h)] := hl
  unfold m_risk at hs
  refine lv_iconst (v := 5) hx hb dX6_risk_0 (by decide) ?_
  refine lv_aload_n hx hb dX6_risk_1 rfl (lv_at hl 0 rfl) ?_
  refine m_geti (v := .int (S.1 38)) X hK hM 38 q1514 rfl rfl rfl dX6_risk_2 ?_
  refine lv_imul hx hb dX6_risk_5 ?_
  refine lv_iconst (v := 3) hx hb dX6_risk_6 (by decide) ?_
  refine lv_aload_n hx hb dX6_risk_7 rfl (lv_at hl 0 rfl) ?_
  refine m_geti (v := .int (S.1 39)) X hK hM 39 q1515 rfl rfl rfl dX6_risk_8 ?_
  refine lv_imul hx hb dX6_risk_11 ?_
  refine lv_iadd hx hb dX6_risk_12 ?_
  refine lv_aload_n hx hb dX6_risk_13 rfl (lv_at hl 0 rfl) ?_
  refine m_calli (rest := [.int ((5 * (S.1 38)) + (3 * (S.1 39)))]) (av := fun ad => []) X hK hA hM (met_stride l  _ _ hs) iX6_stride q1710 ⟨Nat.le_of_ble_eq_true rfl, Nat.le_of_ble_eq_true rfl⟩ rfl hl.1 rfl (Nat.le_of_ble_eq_true rfl) dX6_risk_14 (fun r2 S1 H locs hs hM => ?_)
  refine lv_iadd hx hb dX6_risk_17 ?_
  refine lv_istore_n (lv' := [(1, .int (((5 * (S.1 38)) + (3 * (S.1 39))) + r2)), (0, .ref h)]) hx hb dX6_risk_18 rfl hl (by decide) rfl (fun ls hl => ?_)
  refine lv_aload_n hx hb dX6_risk_19 rfl (lv_at hl 1 rfl) ?_
  refine m_geti (v := .int (S1.1 35)) X hK hM 35 q1511 rfl rfl rfl dX6_risk_20 ?_
  refine lv_iconst (v := 4) hx hb dX6_risk_23 (by decide) ?_
  refine lv_icmp_eq (tgt := 36) hx hb dX6_risk_24 (by decide) (fun c3 => ?_) (fun c3 => ?_)
  · replace hs := ifp c3 hs
    refine lv_iload_n hx hb dX6_risk_36 rfl (lv_at hl 0 rfl) ?_
    refine lv_iconst (v := 2) hx hb dX6_risk_37 (by decide) ?_
    refine lv_idiv hx hb dX6_risk_38 (by decide) ?_
    refine lv_goto (tgt := 43) hx hb dX6_risk_39 (by decide) ?_
    exact m_reti X hK hM hs dX6_risk_43
  · replace hs := ifn c3 hs
    refine lv_aload_n hx hb dX6_risk_27 rfl (lv_at hl 1 rfl) ?_
    refine m_geti (v := .int (S1.1 35)) X hK hM 35 q1511 rfl rfl rfl dX6_risk_28 ?_
    refine lv_bipush (v := 6) hx hb dX6_risk_31 (by decide) ?_
    refine lv_icmp_ne (tgt := 42) hx hb dX6_risk_33 (by decide) (fun c2 => ?_) (fun c2 => ?_)
    · replace hs := ifn c2 hs
      refine lv_iload_n hx hb dX6_risk_42 rfl (lv_at hl 0 rfl) ?_
      exact m_reti X hK hM hs dX6_risk_43
    · replace hs := ifp c2 hs
      refine lv_iload_n hx hb dX6_risk_36 rfl (lv_at hl 0 rfl) ?_
      refine lv_iconst (v := 2) hx hb dX6_risk_37 (by decide) ?_
      refine lv_idiv hx hb dX6_risk_38 (by decide) ?_
      refine lv_goto (tgt := 43) hx hb dX6_risk_39 (by decide) ?_
      exact m_reti X hK hM hs dX6_risk_43
def m_says (a1 : Int32) (a2 : Int32) (S : MS) (K : Int32 → MS → Prop) : Prop := m_isShelf a1 S (fun r2 S1 => jn (m_no (-1) S1 (fun r4 S3 => K r4 S3)) (fun k18_2 => (if r2 = 0 then k18_2 else (if a2 < 0 then k18_2 else (if a2 ≤ 6 then obd (mald S1 19 a1) (fun v5 => (if v5 = 1 then m_no (-2) S1 (fun r110 S109 => K r110 S109) else obd (mald S1 19 a1) (fun v6 => (if v6 = 0 then m_no (-3) S1 (fun r107 S106 => K r107 S106) else obd (mald S1 22 a1) (fun v7 => obd (mald S1 11 v7) (fun v8 => jn (jn (jn (jn (m_puts v7 S1 (fun S9 => (if a2 = 0 then obd (mald S9 13 v7) (fun v11 => K v11 S9) else if a2 = 1 then m_puff  S9 (fun r13 S12 => K r13 S12) else if a2 = 2 then m_stride  S9 (fun r15 S14 => K r15 S14) else if a2 = 3 then m_puff  S9 (fun r17 S16 => K r17 S16) else if a2 = 4 then m_risk  S9 (fun r19 S18 => K r19 S18) else if a2 = 5 then m_stride  S9 (fun r21 S20 => K r21 S20) else m_risk  S9 (fun r23 S22 => K r23 S22)))) (fun k135_8 => (if a2 = 0 then k135_8 else (if a2 = v8 then k135_8 else m_no (-2) S1 (fun r25 S24 => K r25 S24))))) (fun k110_8 => (if a2 = 4 then (if v8 = 6 then jn (m_puts v7 S1 (fun S28 => (if a2 = 0 then obd (mald S28 13 v7) (fun v30 => K v30 S28) else if a2 = 1 then m_puff  S28 (fun r32 S31 => K r32 S31) else if a2 = 2 then m_stride  S28 (fun r34 S33 => K r34 S33) else if a2 = 3 then m_puff  S28 (fun r36 S35 => K r36 S35) else if a2 = 4 then m_risk  S28 (fun r38 S37 => K r38 S37) else if a2 = 5 then m_stride  S28 (fun r40 S39 => K r40 S39) else m_risk  S28 (fun r42 S41 => K r42 S41)))) (fun k135_27 => (if a2 = 0 then k135_27 else (if a2 = v8 then k135_27 else k135_27))) else k110_8) else k110_8))) (fun k94_8 => (if a2 = 2 then (if v8 = 5 then jn (m_puts v7 S1 (fun S47 => (if a2 = 0 then obd (mald S47 13 v7) (fun v49 => K v49 S47) else if a2 = 1 then m_puff  S47 (fun r51 S50 => K r51 S50) else if a2 = 2 then m_stride  S47 (fun r53 S52 => K r53 S52) else if a2 = 3 then m_puff  S47 (fun r55 S54 => K r55 S54) else if a2 = 4 then m_risk  S47 (fun r57 S56 => K r57 S56) else if a2 = 5 then m_stride  S47 (fun r59 S58 => K r59 S58) else m_risk  S47 (fun r61 S60 => K r61 S60)))) (fun k135_46 => (if a2 = 0 then k135_46 else (if a2 = v8 then k135_46 else k135_46))) else k94_8) else k94_8))) (fun k83_8 => jn (jn (m_puts v7 S1 (fun S66 => (if a2 = 0 then obd (mald S66 13 v7) (fun v68 => K v68 S66) else if a2 = 1 then m_puff  S66 (fun r70 S69 => K r70 S69) else if a2 = 2 then m_stride  S66 (fun r72 S71 => K r72 S71) else if a2 = 3 then m_puff  S66 (fun r74 S73 => K r74 S73) else if a2 = 4 then m_risk  S66 (fun r76 S75 => K r76 S75) else if a2 = 5 then m_stride  S66 (fun r78 S77 => K r78 S77) else m_risk  S66 (fun r80 S79 => K r80 S79)))) (fun k135_65 => (if a2 = 0 then k135_65 else (if a2 = v8 then k135_65 else k135_65)))) (fun k106_65 => jn (fun (v83 : Int32) => jn (m_puts v7 S1 (fun S84 => (if a2 = 0 then obd (mald S84 13 v7) (fun v86 => K v86 S84) else if a2 = 1 then m_puff  S84 (fun r88 S87 => K r88 S87) else if a2 = 2 then m_stride  S84 (fun r90 S89 => K r90 S89) else if a2 = 3 then m_puff  S84 (fun r92 S91 => K r92 S91) else if a2 = 4 then m_risk  S84 (fun r94 S93 => K r94 S93) else if a2 = 5 then m_stride  S84 (fun r96 S95 => K r96 S95) else m_risk  S84 (fun r98 S97 => K r98 S97)))) (fun k135_83 => (if a2 = 0 then k135_83 else (if a2 = v8 then k135_83 else (if v83 = 0 then m_no (-2) S1 (fun r100 S99 => K r100 S99) else k135_83))))) (fun k111_83 => (if a2 = 1 then (if v8 = 3 then k106_65 else k83_8) else k83_8)))))))))) else k18_2)))))
theorem iX6_says : mInf yX6_says cX6_says 6 (some .int) 2 := ⟨q1691, q1692, q1693, by decide +kernel⟩
set_option maxHeartbeats 4000000 in
theorem met_says (l : Launch) (a1 : Int32) (a2 : Int32) (S : MS) (K : Int32 → MS → Prop) (hs : m_says a1 a2 S K) : mMeti l yX6_says cX6_says 6 3 63 S (fun ad => [.int a1, .int a2]) K := by
  intro D dT h ad sz
  refine mEnter (Qc := mQi D dT h ad K) (by decide) rfl (by rfl) ?_
  intro p e s m args below meth c A ls X hK hA hM hl
  have hx := X.1
  have hb := X.2.1
  have hts := X.2.2.2.2.1
  have hown := X.2.2.2.2.2.1
  have hl : lv_has ls 6 [(0, .ref h), (1, .int a1), (2, .int a2)] := hl
  unfold m_says at hs
  refine lv_aload_n hx hb dX6_says_0 rfl (lv_at hl 0 rfl) ?_
  refine lv_iload_n hx hb dX6_says_1 rfl (lv_at hl 1 rfl) ?_
  refine m_callz (rest := []) (av := fun ad => [.int a1]) X hK hA hM (met_isShelf l a1 _ _ hs) iX6_isShelf q1658 ⟨Nat.le_of_ble_eq_true rfl, Nat.le_of_ble_eq_true rfl⟩ rfl hl.1 rfl (Nat.le_of_ble_eq_true rfl) dX6_says_2 (fun r2 S1 H locs br2 hs hM => ?_)
  obtain ⟨k18_2, hk18_2, hs⟩ := jn_ex hs
  have Ek18_2 : ∀ (H : Heap) (locs : List Loc) (ls : Array Slot), k18_2 → mI D dT A s.heap h ad S1 H locs → lv_has ls 6 [(0, .ref h)] → W p l e (mRm 3 63) s m args below meth c H locs 0 0 (MQ below (mQi D dT h ad K A) args s 0 0 A) (F0 m 18 ls []) := by
    intro H locs ls hs hM hl
    rw [hk18_2] at hs
    refine lv_aload_n hx hb dX6_says_18 rfl (lv_at hl 0 rfl) ?_
    refine lv_iconst (v := (-1)) hx hb dX6_says_19 (by decide) ?_
    refine m_calli (rest := []) (av := fun ad => [.int (-1)]) X hK hA hM (met_no l (-1) _ _ hs) iX6_no q1662 ⟨Nat.le_of_ble_eq_true rfl, Nat.le_of_ble_eq_true rfl⟩ rfl hl.1 rfl (Nat.le_of_ble_eq_true rfl) dX6_says_20 (fun r4 S3 H locs hs hM => ?_)
    exact m_reti X hK hM hs dX6_says_23
  refine lv_if_eq (tgt := 18) hx hb dX6_says_5 (by decide) (fun c113 => ?_) (fun c113 => ?_)
  · replace hs := ifp c113 hs
    exact Ek18_2 _ _ _ hs hM (lv_sub hl [0] rfl)
  · replace hs := ifn c113 hs
    refine lv_iload_n hx hb dX6_says_8 rfl (lv_at hl 2 rfl) ?_
    refine lv_if_lt (tgt := 18) hx hb dX6_says_9 (by decide) (fun c112 => ?_) (fun c112 => ?_)
    · replace hs := ifp c112 hs
      exact Ek18_2 _ _ _ hs hM (lv_sub hl [0] rfl)
    · replace hs := ifn c112 hs
      refine lv_iload_n hx hb dX6_says_12 rfl (lv_at hl 2 rfl) ?_
      refine lv_bipush (v := 6) hx hb dX6_says_13 (by decide) ?_
      refine lv_icmp_le (tgt := 24) hx hb dX6_says_15 (by decide) (fun c111 => ?_) (fun c111 => ?_)
      · replace hs := ifp c111 hs
        refine lv_aload_n hx hb dX6_says_24 rfl (lv_at hl 0 rfl) ?_
        refine m_geti (v := .ref (ad 19)) X hK hM 19 q1495 rfl rfl rfl dX6_says_25 ?_
        refine lv_iload_n hx hb dX6_says_28 rfl (lv_at hl 1 rfl) ?_
        obtain ⟨v5, ev5, hs⟩ := hs
        refine m_iald X hK hM rfl ev5 dX6_says_29 ?_
        refine lv_iconst (v := 1) hx hb dX6_says_30 (by decide) ?_
        refine lv_icmp_ne (tgt := 41) hx hb dX6_says_31 (by decide) (fun c110 => ?_) (fun c110 => ?_)
        · replace hs := ifn c110 hs
          refine lv_aload_n hx hb dX6_says_41 rfl (lv_at hl 0 rfl) ?_
          refine m_geti (v := .ref (ad 19)) X hK hM 19 q1495 rfl rfl rfl dX6_says_42 ?_
          refine lv_iload_n hx hb dX6_says_45 rfl (lv_at hl 1 rfl) ?_
          obtain ⟨v6, ev6, hs⟩ := hs
          refine m_iald X hK hM rfl ev6 dX6_says_46 ?_
          refine lv_if_ne (tgt := 57) hx hb dX6_says_47 (by decide) (fun c107 => ?_) (fun c107 => ?_)
          · replace hs := ifn c107 hs
            refine lv_aload_n hx hb dX6_says_57 rfl (lv_at hl 0 rfl) ?_
            refine m_geti (v := .ref (ad 22)) X hK hM 22 q1498 rfl rfl rfl dX6_says_58 ?_
            refine lv_iload_n hx hb dX6_says_61 rfl (lv_at hl 1 rfl) ?_
            obtain ⟨v7, ev7, hs⟩ := hs
            refine m_iald X hK hM rfl ev7 dX6_says_62 ?_
            refine lv_istore_n (lv' := [(3, .int v7), (0, .ref h), (1, .int a1), (2, .int a2)]) hx hb dX6_says_63 rfl hl (by decide) rfl (fun ls hl => ?_)
            refine lv_aload_n hx hb dX6_says_64 rfl (lv_at hl 1 rfl) ?_
            refine m_geti (v := .ref (ad 11)) X hK hM 11 q1487 rfl rfl rfl dX6_says_65 ?_
            refine lv_iload_n hx hb dX6_says_68 rfl (lv_at hl 0 rfl) ?_
            obtain ⟨v8, ev8, hs⟩ := hs
            refine m_iald X hK hM rfl ev8 dX6_says_69 ?_
            refine lv_istore (lv' := [(4, .int v8), (3, .int v7), (0, .ref h), (1, .int a1), (2, .int a2)]) hx hb dX6_says_70 hl (by decide) rfl (fun ls hl => ?_)
            refine lv_iload_n hx hb dX6_says_72 rfl (lv_at hl 4 rfl) ?_
            refine lv_iconst (v := 1) hx hb dX6_says_73 (by decide) ?_
            obtain ⟨k83_8, hk83_8, hs⟩ := jn_ex hs
            have Ek83_8 : ∀ (H : Heap) (locs : List Loc) (ls : Array Slot), k83_8 → mI D dT A s.heap h ad S1 H locs → lv_has ls 6 [(0, .ref h), (2, .int a2), (3, .int v7), (4, .int v8)] → W p l e (mRm 3 63) s m args below meth c H locs 0 0 (MQ below (mQi D dT h ad K A) args s 0 0 A) (F0 m 83 ls []) := by
              intro H locs ls hs hM hl
              rw [hk83_8] at hs
              refine lv_iload_n hx hb dX6_says_83 rfl (lv_at hl 1 rfl) ?_
              refine lv_iconst (v := 2) hx hb dX6_says_84 (by decide) ?_
              obtain ⟨k94_8, hk94_8, hs⟩ := jn_ex hs
              have Ek94_8 : ∀ (H : Heap) (locs : List Loc) (ls : Array Slot), k94_8 → mI D dT A s.heap h ad S1 H locs → lv_has ls 6 [(0, .ref h), (2, .int a2), (3, .int v7), (4, .int v8)] → W p l e (mRm 3 63) s m args below meth c H locs 0 0 (MQ below (mQi D dT h ad K A) args s 0 0 A) (F0 m 94 ls []) := by
                intro H locs ls hs hM hl
                rw [hk94_8] at hs
                refine lv_iload_n hx hb dX6_says_94 rfl (lv_at hl 1 rfl) ?_
                refine lv_iconst (v := 4) hx hb dX6_says_95 (by decide) ?_
                obtain ⟨k110_8, hk110_8, hs⟩ := jn_ex hs
                have Ek110_8 : ∀ (H : Heap) (locs : List Loc) (ls : Array Slot), k110_8 → mI D dT A s.heap h ad S1 H locs → lv_has ls 6 [(0, .ref h), (2, .int a2), (3, .int v7), (4, .int v8)] → W p l e (mRm 3 63) s m args below meth c H locs 0 0 (MQ below (mQi D dT h ad K A) args s 0 0 A) (F0 m 110 ls []) := by
                  intro H locs ls hs hM hl
                  rw [hk110_8] at hs
                  refine lv_iconst (v := 0) hx hb dX6_says_110 (by decide) ?_
                  refine lv_istore (lv' := [(5, .int 0), (0, .ref h), (2, .int a2), (3, .int v7), (4, .int v8)]) hx hb dX6_says_111 hl (by decide) rfl (fun ls hl => ?_)
                  refine lv_iload_n hx hb dX6_says_113 rfl (lv_at hl 2 rfl) ?_
                  obtain ⟨k135_8, hk135_8, hs⟩ := jn_ex hs
                  have Ek135_8 : ∀ (H : Heap) (locs : List Loc) (ls : Array Slot), k135_8 → mI D dT A s.heap h ad S1 H locs → lv_has ls 6 [(0, .ref h), (2, .int a2), (3, .int v7)] → W p l e (mRm 3 63) s m args below meth c H locs 0 0 (MQ below (mQi D dT h ad K A) args s 0 0 A) (F0 m 135 ls []) := by
                    intro H locs ls hs hM hl
                    rw [hk135_8] at hs
                    refine lv_aload_n hx hb dX6_says_135 rfl (lv_at hl 0 rfl) ?_
                    refine lv_iload_n hx hb dX6_says_136 rfl (lv_at hl 2 rfl) ?_
                    refine m_callv (rest := []) (av := fun ad => [.int v7]) X hK hA hM (met_puts l v7 _ _ hs) iX6_puts q1694 ⟨Nat.le_of_ble_eq_true rfl, Nat.le_of_ble_eq_true rfl⟩ rfl hl.1 rfl (Nat.le_of_ble_eq_true rfl) dX6_says_137 (fun S9 H locs hs hM => ?_)
                    refine lv_iload_n hx hb dX6_says_140 rfl (lv_at hl 1 rfl) ?_
                    by_cases c9_0 : a2 = 0
                    · replace hs := ifp c9_0 hs
                      refine lv_tableIn (tgt := 180) hx hb dX6_says_141 (by rw [c9_0]; decide) (by rw [c9_0]; decide) (by rw [c9_0]; rfl) (by decide) ?_
                      refine lv_aload_n hx hb dX6_says_180 rfl (lv_at hl 0 rfl) ?_
                      refine m_geti (v := .ref (ad 13)) X hK hM 13 q1489 rfl rfl rfl dX6_says_181 ?_
                      refine lv_iload_n hx hb dX6_says_184 rfl (lv_at hl 2 rfl) ?_
                      obtain ⟨v11, ev11, hs⟩ := hs
                      refine m_iald X hK hM rfl ev11 dX6_says_185 ?_
                      exact m_reti X hK hM hs dX6_says_186
                    · replace hs := ifn c9_0 hs
                      by_cases c9_1 : a2 = 1
                      · replace hs := ifp c9_1 hs
                        refine lv_tableIn (tgt := 187) hx hb dX6_says_141 (by rw [c9_1]; decide) (by rw [c9_1]; decide) (by rw [c9_1]; rfl) (by decide) ?_
                        refine lv_aload_n hx hb dX6_says_187 rfl (lv_at hl 0 rfl) ?_
                        refine m_calli (rest := []) (av := fun ad => []) X hK hA hM (met_puff l  _ _ hs) iX6_puff q1706 ⟨Nat.le_of_ble_eq_true rfl, Nat.le_of_ble_eq_true rfl⟩ rfl hl.1 rfl (Nat.le_of_ble_eq_true rfl) dX6_says_188 (fun r13 S12 H locs hs hM => ?_)
                        exact m_reti X hK hM hs dX6_says_191
                      · replace hs := ifn c9_1 hs
                        by_cases c9_2 : a2 = 2
                        · replace hs := ifp c9_2 hs
                          refine lv_tableIn (tgt := 192) hx hb dX6_says_141 (by rw [c9_2]; decide) (by rw [c9_2]; decide) (by rw [c9_2]; rfl) (by decide) ?_
                          refine lv_aload_n hx hb dX6_says_192 rfl (lv_at hl 0 rfl) ?_
                          refine m_calli (rest := []) (av := fun ad => []) X hK hA hM (met_stride l  _ _ hs) iX6_stride q1710 ⟨Nat.le_of_ble_eq_true rfl, Nat.le_of_ble_eq_true rfl⟩ rfl hl.1 rfl (Nat.le_of_ble_eq_true rfl) dX6_says_193 (fun r15 S14 H locs hs hM => ?_)
                          exact m_reti X hK hM hs dX6_says_196
                        · replace hs := ifn c9_2 hs
                          by_cases c9_3 : a2 = 3
                          · replace hs := ifp c9_3 hs
                            refine lv_tableIn (tgt := 187) hx hb dX6_says_141 (by rw [c9_3]; decide) (by rw [c9_3]; decide) (by rw [c9_3]; rfl) (by decide) ?_
                            refine lv_aload_n hx hb dX6_says_187 rfl (lv_at hl 0 rfl) ?_
                            refine m_calli (rest := []) (av := fun ad => []) X hK hA hM (met_puff l  _ _ hs) iX6_puff q1706 ⟨Nat.le_of_ble_eq_true rfl, Nat.le_of_ble_eq_true rfl⟩ rfl hl.1 rfl (Nat.le_of_ble_eq_true rfl) dX6_says_188 (fun r17 S16 H locs hs hM => ?_)
                            exact m_reti X hK hM hs dX6_says_191
                          · replace hs := ifn c9_3 hs
                            by_cases c9_4 : a2 = 4
                            · replace hs := ifp c9_4 hs
                              refine lv_tableIn (tgt := 197) hx hb dX6_says_141 (by rw [c9_4]; decide) (by rw [c9_4]; decide) (by rw [c9_4]; rfl) (by decide) ?_
                              refine lv_aload_n hx hb dX6_says_197 rfl (lv_at hl 0 rfl) ?_
                              refine m_calli (rest := []) (av := fun ad => []) X hK hA hM (met_risk l  _ _ hs) iX6_risk q1718 ⟨Nat.le_of_ble_eq_true rfl, Nat.le_of_ble_eq_true rfl⟩ rfl hl.1 rfl (Nat.le_of_ble_eq_true rfl) dX6_says_198 (fun r19 S18 H locs hs hM => ?_)
                              exact m_reti X hK hM hs dX6_says_201
                            · replace hs := ifn c9_4 hs
                              by_cases c9_5 : a2 = 5
                              · replace hs := ifp c9_5 hs
                                refine lv_tableIn (tgt := 192) hx hb dX6_says_141 (by rw [c9_5]; decide) (by rw [c9_5]; decide) (by rw [c9_5]; rfl) (by decide) ?_
                                refine lv_aload_n hx hb dX6_says_192 rfl (lv_at hl 0 rfl) ?_
                                refine m_calli (rest := []) (av := fun ad => []) X hK hA hM (met_stride l  _ _ hs) iX6_stride q1710 ⟨Nat.le_of_ble_eq_true rfl, Nat.le_of_ble_eq_true rfl⟩ rfl hl.1 rfl (Nat.le_of_ble_eq_true rfl) dX6_says_193 (fun r21 S20 H locs hs hM => ?_)
                                exact m_reti X hK hM hs dX6_says_196
                              · replace hs := ifn c9_5 hs
                                refine lv_tableOut (tgt := 197) hx hb dX6_says_141 (sw_out (fun k h1 h2 => by
                                  have h3 : k = 0 ∨ k = 1 ∨ k = 2 ∨ k = 3 ∨ k = 4 ∨ k = 5 := by omega
                                  rcases h3 with rfl | rfl | rfl | rfl | rfl | rfl
                                  · exact lv_neT c9_0 rfl
                                  · exact lv_neT c9_1 rfl
                                  · exact lv_neT c9_2 rfl
                                  · exact lv_neT c9_3 rfl
                                  · exact lv_neT c9_4 rfl
                                  · exact lv_neT c9_5 rfl
                                  )) (by decide) ?_
                                refine lv_aload_n hx hb dX6_says_197 rfl (lv_at hl 0 rfl) ?_
                                refine m_calli (rest := []) (av := fun ad => []) X hK hA hM (met_risk l  _ _ hs) iX6_risk q1718 ⟨Nat.le_of_ble_eq_true rfl, Nat.le_of_ble_eq_true rfl⟩ rfl hl.1 rfl (Nat.le_of_ble_eq_true rfl) dX6_says_198 (fun r23 S22 H locs hs hM => ?_)
                                exact m_reti X hK hM hs dX6_says_201
                  refine lv_if_eq (tgt := 135) hx hb dX6_says_114 (by decide) (fun c26 => ?_) (fun c26 => ?_)
                  · replace hs := ifp c26 hs
                    exact Ek135_8 _ _ _ hs hM (lv_sub hl [1, 2, 3] rfl)
                  · replace hs := ifn c26 hs
                    refine lv_iload_n hx hb dX6_says_117 rfl (lv_at hl 2 rfl) ?_
                    refine lv_iload hx hb dX6_says_118 (lv_at hl 4 rfl) ?_
                    refine lv_icmp_eq (tgt := 135) hx hb dX6_says_120 (by decide) (fun c25 => ?_) (fun c25 => ?_)
                    · replace hs := ifp c25 hs
                      exact Ek135_8 _ _ _ hs hM (lv_sub hl [1, 2, 3] rfl)
                    · replace hs := ifn c25 hs
                      refine lv_iload hx hb dX6_says_123 (lv_at hl 0 rfl) ?_
                      refine lv_if_ne (tgt := 135) hx hb dX6_says_125 (by decide) (fun c => absurd (by decide) c) (fun _ => ?_)
                      refine lv_aload_n hx hb dX6_says_128 rfl (lv_at hl 1 rfl) ?_
                      refine lv_bipush (v := (-2)) hx hb dX6_says_129 (by decide) ?_
                      refine m_calli (rest := []) (av := fun ad => [.int (-2)]) X hK hA hM (met_no l (-2) _ _ hs) iX6_no q1662 ⟨Nat.le_of_ble_eq_true rfl, Nat.le_of_ble_eq_true rfl⟩ rfl hl.1 rfl (Nat.le_of_ble_eq_true rfl) dX6_says_131 (fun r25 S24 H locs hs hM => ?_)
                      exact m_reti X hK hM hs dX6_says_134
                refine lv_icmp_ne (tgt := 110) hx hb dX6_says_96 (by decide) (fun c45 => ?_) (fun c45 => ?_)
                · replace hs := ifn c45 hs
                  exact Ek110_8 _ _ _ hs hM hl
                · replace hs := ifp c45 hs
                  refine lv_iload hx hb dX6_says_99 (lv_at hl 3 rfl) ?_
                  refine lv_bipush (v := 6) hx hb dX6_says_101 (by decide) ?_
                  refine lv_icmp_ne (tgt := 110) hx hb dX6_says_103 (by decide) (fun c44 => ?_) (fun c44 => ?_)
                  · replace hs := ifn c44 hs
                    exact Ek110_8 _ _ _ hs hM hl
                  · replace hs := ifp c44 hs
                    refine lv_iconst (v := 1) hx hb dX6_says_106 (by decide) ?_
                    refine lv_goto (tgt := 111) hx hb dX6_says_107 (by decide) ?_
                    refine lv_istore (lv' := [(5, .int 1), (0, .ref h), (2, .int a2), (3, .int v7), (4, .int v8)]) hx hb dX6_says_111 hl (by decide) rfl (fun ls hl => ?_)
                    refine lv_iload_n hx hb dX6_says_113 rfl (lv_at hl 2 rfl) ?_
                    obtain ⟨k135_27, hk135_27, hs⟩ := jn_ex hs
                    have Ek135_27 : ∀ (H : Heap) (locs : List Loc) (ls : Array Slot), k135_27 → mI D dT A s.heap h ad S1 H locs → lv_has ls 6 [(0, .ref h), (2, .int a2), (3, .int v7)] → W p l e (mRm 3 63) s m args below meth c H locs 0 0 (MQ below (mQi D dT h ad K A) args s 0 0 A) (F0 m 135 ls []) := by
                      intro H locs ls hs hM hl
                      rw [hk135_27] at hs
                      refine lv_aload_n hx hb dX6_says_135 rfl (lv_at hl 0 rfl) ?_
                      refine lv_iload_n hx hb dX6_says_136 rfl (lv_at hl 2 rfl) ?_
                      refine m_callv (rest := []) (av := fun ad => [.int v7]) X hK hA hM (met_puts l v7 _ _ hs) iX6_puts q1694 ⟨Nat.le_of_ble_eq_true rfl, Nat.le_of_ble_eq_true rfl⟩ rfl hl.1 rfl (Nat.le_of_ble_eq_true rfl) dX6_says_137 (fun S28 H locs hs hM => ?_)
                      refine lv_iload_n hx hb dX6_says_140 rfl (lv_at hl 1 rfl) ?_
                      by_cases c28_0 : a2 = 0
                      · replace hs := ifp c28_0 hs
                        refine lv_tableIn (tgt := 180) hx hb dX6_says_141 (by rw [c28_0]; decide) (by rw [c28_0]; decide) (by rw [c28_0]; rfl) (by decide) ?_
                        refine lv_aload_n hx hb dX6_says_180 rfl (lv_at hl 0 rfl) ?_
                        refine m_geti (v := .ref (ad 13)) X hK hM 13 q1489 rfl rfl rfl dX6_says_181 ?_
                        refine lv_iload_n hx hb dX6_says_184 rfl (lv_at hl 2 rfl) ?_
                        obtain ⟨v30, ev30, hs⟩ := hs
                        refine m_iald X hK hM rfl ev30 dX6_says_185 ?_
                        exact m_reti X hK hM hs dX6_says_186
                      · replace hs := ifn c28_0 hs
                        by_cases c28_1 : a2 = 1
                        · replace hs := ifp c28_1 hs
                          refine lv_tableIn (tgt := 187) hx hb dX6_says_141 (by rw [c28_1]; decide) (by rw [c28_1]; decide) (by rw [c28_1]; rfl) (by decide) ?_
                          refine lv_aload_n hx hb dX6_says_187 rfl (lv_at hl 0 rfl) ?_
                          refine m_calli (rest := []) (av := fun ad => []) X hK hA hM (met_puff l  _ _ hs) iX6_puff q1706 ⟨Nat.le_of_ble_eq_true rfl, Nat.le_of_ble_eq_true rfl⟩ rfl hl.1 rfl (Nat.le_of_ble_eq_true rfl) dX6_says_188 (fun r32 S31 H locs hs hM => ?_)
                          exact m_reti X hK hM hs dX6_says_191
                        · replace hs := ifn c28_1 hs
                          by_cases c28_2 : a2 = 2
                          · replace hs := ifp c28_2 hs
                            refine lv_tableIn (tgt := 192) hx hb dX6_says_141 (by rw [c28_2]; decide) (by rw [c28_2]; decide) (by rw [c28_2]; rfl) (by decide) ?_
                            refine lv_aload_n hx hb dX6_says_192 rfl (lv_at hl 0 rfl) ?_
                            refine m_calli (rest := []) (av := fun ad => []) X hK hA hM (met_stride l  _ _ hs) iX6_stride q1710 ⟨Nat.le_of_ble_eq_true rfl, Nat.le_of_ble_eq_true rfl⟩ rfl hl.1 rfl (Nat.le_of_ble_eq_true rfl) dX6_says_193 (fun r34 S33 H locs hs hM => ?_)
                            exact m_reti X hK hM hs dX6_says_196
                          · replace hs := ifn c28_2 hs
                            by_cases c28_3 : a2 = 3
                            · replace hs := ifp c28_3 hs
                              refine lv_tableIn (tgt := 187) hx hb dX6_says_141 (by rw [c28_3]; decide) (by rw [c28_3]; decide) (by rw [c28_3]; rfl) (by decide) ?_
                              refine lv_aload_n hx hb dX6_says_187 rfl (lv_at hl 0 rfl) ?_
                              refine m_calli (rest := []) (av := fun ad => []) X hK hA hM (met_puff l  _ _ hs) iX6_puff q1706 ⟨Nat.le_of_ble_eq_true rfl, Nat.le_of_ble_eq_true rfl⟩ rfl hl.1 rfl (Nat.le_of_ble_eq_true rfl) dX6_says_188 (fun r36 S35 H locs hs hM => ?_)
                              exact m_reti X hK hM hs dX6_says_191
                            · replace hs := ifn c28_3 hs
                              by_cases c28_4 : a2 = 4
                              · replace hs := ifp c28_4 hs
                                refine lv_tableIn (tgt := 197) hx hb dX6_says_141 (by rw [c28_4]; decide) (by rw [c28_4]; decide) (by rw [c28_4]; rfl) (by decide) ?_
                                refine lv_aload_n hx hb dX6_says_197 rfl (lv_at hl 0 rfl) ?_
                                refine m_calli (rest := []) (av := fun ad => []) X hK hA hM (met_risk l  _ _ hs) iX6_risk q1718 ⟨Nat.le_of_ble_eq_true rfl, Nat.le_of_ble_eq_true rfl⟩ rfl hl.1 rfl (Nat.le_of_ble_eq_true rfl) dX6_says_198 (fun r38 S37 H locs hs hM => ?_)
                                exact m_reti X hK hM hs dX6_says_201
                              · replace hs := ifn c28_4 hs
                                by_cases c28_5 : a2 = 5
                                · replace hs := ifp c28_5 hs
                                  refine lv_tableIn (tgt := 192) hx hb dX6_says_141 (by rw [c28_5]; decide) (by rw [c28_5]; decide) (by rw [c28_5]; rfl) (by decide) ?_
                                  refine lv_aload_n hx hb dX6_says_192 rfl (lv_at hl 0 rfl) ?_
                                  refine m_calli (rest := []) (av := fun ad => []) X hK hA hM (met_stride l  _ _ hs) iX6_stride q1710 ⟨Nat.le_of_ble_eq_true rfl, Nat.le_of_ble_eq_true rfl⟩ rfl hl.1 rfl (Nat.le_of_ble_eq_true rfl) dX6_says_193 (fun r40 S39 H locs hs hM => ?_)
                                  exact m_reti X hK hM hs dX6_says_196
                                · replace hs := ifn c28_5 hs
                                  refine lv_tableOut (tgt := 197) hx hb dX6_says_141 (sw_out (fun k h1 h2 => by
                                    have h3 : k = 0 ∨ k = 1 ∨ k = 2 ∨ k = 3 ∨ k = 4 ∨ k = 5 := by omega
                                    rcases h3 with rfl | rfl | rfl | rfl | rfl | rfl
                                    · exact lv_neT c28_0 rfl
                                    · exact lv_neT c28_1 rfl
                                    · exact lv_neT c28_2 rfl
                                    · exact lv_neT c28_3 rfl
                                    · exact lv_neT c28_4 rfl
                                    · exact lv_neT c28_5 rfl
                                    )) (by decide) ?_
                                  refine lv_aload_n hx hb dX6_says_197 rfl (lv_at hl 0 rfl) ?_
                                  refine m_calli (rest := []) (av := fun ad => []) X hK hA hM (met_risk l  _ _ hs) iX6_risk q1718 ⟨Nat.le_of_ble_eq_true rfl, Nat.le_of_ble_eq_true rfl⟩ rfl hl.1 rfl (Nat.le_of_ble_eq_true rfl) dX6_says_198 (fun r42 S41 H locs hs hM => ?_)
                                  exact m_reti X hK hM hs dX6_says_201
                    refine lv_if_eq (tgt := 135) hx hb dX6_says_114 (by decide) (fun c43 => ?_) (fun c43 => ?_)
                    · replace hs := ifp c43 hs
                      exact Ek135_27 _ _ _ hs hM (lv_sub hl [1, 2, 3] rfl)
                    · replace hs := ifn c43 hs
                      refine lv_iload_n hx hb dX6_says_117 rfl (lv_at hl 2 rfl) ?_
                      refine lv_iload hx hb dX6_says_118 (lv_at hl 4 rfl) ?_
                      refine lv_icmp_eq (tgt := 135) hx hb dX6_says_120 (by decide) (fun c42 => ?_) (fun c42 => ?_)
                      · replace hs := ifp c42 hs
                        exact Ek135_27 _ _ _ hs hM (lv_sub hl [1, 2, 3] rfl)
                      · replace hs := ifn c42 hs
                        refine lv_iload hx hb dX6_says_123 (lv_at hl 0 rfl) ?_
                        refine lv_if_ne (tgt := 135) hx hb dX6_says_125 (by decide) (fun _ => ?_) (fun c => absurd c (by decide))
                        exact Ek135_27 _ _ _ hs hM (lv_sub hl [1, 2, 3] rfl)
              refine lv_icmp_ne (tgt := 94) hx hb dX6_says_85 (by decide) (fun c64 => ?_) (fun c64 => ?_)
              · replace hs := ifn c64 hs
                exact Ek94_8 _ _ _ hs hM hl
              · replace hs := ifp c64 hs
                refine lv_iload hx hb dX6_says_88 (lv_at hl 3 rfl) ?_
                refine lv_iconst (v := 5) hx hb dX6_says_90 (by decide) ?_
                refine lv_icmp_eq (tgt := 106) hx hb dX6_says_91 (by decide) (fun c63 => ?_) (fun c63 => ?_)
                · replace hs := ifp c63 hs
                  refine lv_iconst (v := 1) hx hb dX6_says_106 (by decide) ?_
                  refine lv_goto (tgt := 111) hx hb dX6_says_107 (by decide) ?_
                  refine lv_istore (lv' := [(5, .int 1), (0, .ref h), (2, .int a2), (3, .int v7), (4, .int v8)]) hx hb dX6_says_111 hl (by decide) rfl (fun ls hl => ?_)
                  refine lv_iload_n hx hb dX6_says_113 rfl (lv_at hl 2 rfl) ?_
                  obtain ⟨k135_46, hk135_46, hs⟩ := jn_ex hs
                  have Ek135_46 : ∀ (H : Heap) (locs : List Loc) (ls : Array Slot), k135_46 → mI D dT A s.heap h ad S1 H locs → lv_has ls 6 [(0, .ref h), (2, .int a2), (3, .int v7)] → W p l e (mRm 3 63) s m args below meth c H locs 0 0 (MQ below (mQi D dT h ad K A) args s 0 0 A) (F0 m 135 ls []) := by
                    intro H locs ls hs hM hl
                    rw [hk135_46] at hs
                    refine lv_aload_n hx hb dX6_says_135 rfl (lv_at hl 0 rfl) ?_
                    refine lv_iload_n hx hb dX6_says_136 rfl (lv_at hl 2 rfl) ?_
                    refine m_callv (rest := []) (av := fun ad => [.int v7]) X hK hA hM (met_puts l v7 _ _ hs) iX6_puts q1694 ⟨Nat.le_of_ble_eq_true rfl, Nat.le_of_ble_eq_true rfl⟩ rfl hl.1 rfl (Nat.le_of_ble_eq_true rfl) dX6_says_137 (fun S47 H locs hs hM => ?_)
                    refine lv_iload_n hx hb dX6_says_140 rfl (lv_at hl 1 rfl) ?_
                    by_cases c47_0 : a2 = 0
                    · replace hs := ifp c47_0 hs
                      refine lv_tableIn (tgt := 180) hx hb dX6_says_141 (by rw [c47_0]; decide) (by rw [c47_0]; decide) (by rw [c47_0]; rfl) (by decide) ?_
                      refine lv_aload_n hx hb dX6_says_180 rfl (lv_at hl 0 rfl) ?_
                      refine m_geti (v := .ref (ad 13)) X hK hM 13 q1489 rfl rfl rfl dX6_says_181 ?_
                      refine lv_iload_n hx hb dX6_says_184 rfl (lv_at hl 2 rfl) ?_
                      obtain ⟨v49, ev49, hs⟩ := hs
                      refine m_iald X hK hM rfl ev49 dX6_says_185 ?_
                      exact m_reti X hK hM hs dX6_says_186
                    · replace hs := ifn c47_0 hs
                      by_cases c47_1 : a2 = 1
                      · replace hs := ifp c47_1 hs
                        refine lv_tableIn (tgt := 187) hx hb dX6_says_141 (by rw [c47_1]; decide) (by rw [c47_1]; decide) (by rw [c47_1]; rfl) (by decide) ?_
                        refine lv_aload_n hx hb dX6_says_187 rfl (lv_at hl 0 rfl) ?_
                        refine m_calli (rest := []) (av := fun ad => []) X hK hA hM (met_puff l  _ _ hs) iX6_puff q1706 ⟨Nat.le_of_ble_eq_true rfl, Nat.le_of_ble_eq_true rfl⟩ rfl hl.1 rfl (Nat.le_of_ble_eq_true rfl) dX6_says_188 (fun r51 S50 H locs hs hM => ?_)
                        exact m_reti X hK hM hs dX6_says_191
                      · replace hs := ifn c47_1 hs
                        by_cases c47_2 : a2 = 2
                        · replace hs := ifp c47_2 hs
                          refine lv_tableIn (tgt := 192) hx hb dX6_says_141 (by rw [c47_2]; decide) (by rw [c47_2]; decide) (by rw [c47_2]; rfl) (by decide) ?_
                          refine lv_aload_n hx hb dX6_says_192 rfl (lv_at hl 0 rfl) ?_
                          refine m_calli (rest := []) (av := fun ad => []) X hK hA hM (met_stride l  _ _ hs) iX6_stride q1710 ⟨Nat.le_of_ble_eq_true rfl, Nat.le_of_ble_eq_true rfl⟩ rfl hl.1 rfl (Nat.le_of_ble_eq_true rfl) dX6_says_193 (fun r53 S52 H locs hs hM => ?_)
                          exact m_reti X hK hM hs dX6_says_196
                        · replace hs := ifn c47_2 hs
                          by_cases c47_3 : a2 = 3
                          · replace hs := ifp c47_3 hs
                            refine lv_tableIn (tgt := 187) hx hb dX6_says_141 (by rw [c47_3]; decide) (by rw [c47_3]; decide) (by rw [c47_3]; rfl) (by decide) ?_
                            refine lv_aload_n hx hb dX6_says_187 rfl (lv_at hl 0 rfl) ?_
                            refine m_calli (rest := []) (av := fun ad => []) X hK hA hM (met_puff l  _ _ hs) iX6_puff q1706 ⟨Nat.le_of_ble_eq_true rfl, Nat.le_of_ble_eq_true rfl⟩ rfl hl.1 rfl (Nat.le_of_ble_eq_true rfl) dX6_says_188 (fun r55 S54 H locs hs hM => ?_)
                            exact m_reti X hK hM hs dX6_says_191
                          · replace hs := ifn c47_3 hs
                            by_cases c47_4 : a2 = 4
                            · replace hs := ifp c47_4 hs
                              refine lv_tableIn (tgt := 197) hx hb dX6_says_141 (by rw [c47_4]; decide) (by rw [c47_4]; decide) (by rw [c47_4]; rfl) (by decide) ?_
                              refine lv_aload_n hx hb dX6_says_197 rfl (lv_at hl 0 rfl) ?_
                              refine m_calli (rest := []) (av := fun ad => []) X hK hA hM (met_risk l  _ _ hs) iX6_risk q1718 ⟨Nat.le_of_ble_eq_true rfl, Nat.le_of_ble_eq_true rfl⟩ rfl hl.1 rfl (Nat.le_of_ble_eq_true rfl) dX6_says_198 (fun r57 S56 H locs hs hM => ?_)
                              exact m_reti X hK hM hs dX6_says_201
                            · replace hs := ifn c47_4 hs
                              by_cases c47_5 : a2 = 5
                              · replace hs := ifp c47_5 hs
                                refine lv_tableIn (tgt := 192) hx hb dX6_says_141 (by rw [c47_5]; decide) (by rw [c47_5]; decide) (by rw [c47_5]; rfl) (by decide) ?_
                                refine lv_aload_n hx hb dX6_says_192 rfl (lv_at hl 0 rfl) ?_
                                refine m_calli (rest := []) (av := fun ad => []) X hK hA hM (met_stride l  _ _ hs) iX6_stride q1710 ⟨Nat.le_of_ble_eq_true rfl, Nat.le_of_ble_eq_true rfl⟩ rfl hl.1 rfl (Nat.le_of_ble_eq_true rfl) dX6_says_193 (fun r59 S58 H locs hs hM => ?_)
                                exact m_reti X hK hM hs dX6_says_196
                              · replace hs := ifn c47_5 hs
                                refine lv_tableOut (tgt := 197) hx hb dX6_says_141 (sw_out (fun k h1 h2 => by
                                  have h3 : k = 0 ∨ k = 1 ∨ k = 2 ∨ k = 3 ∨ k = 4 ∨ k = 5 := by omega
                                  rcases h3 with rfl | rfl | rfl | rfl | rfl | rfl
                                  · exact lv_neT c47_0 rfl
                                  · exact lv_neT c47_1 rfl
                                  · exact lv_neT c47_2 rfl
                                  · exact lv_neT c47_3 rfl
                                  · exact lv_neT c47_4 rfl
                                  · exact lv_neT c47_5 rfl
                                  )) (by decide) ?_
                                refine lv_aload_n hx hb dX6_says_197 rfl (lv_at hl 0 rfl) ?_
                                refine m_calli (rest := []) (av := fun ad => []) X hK hA hM (met_risk l  _ _ hs) iX6_risk q1718 ⟨Nat.le_of_ble_eq_true rfl, Nat.le_of_ble_eq_true rfl⟩ rfl hl.1 rfl (Nat.le_of_ble_eq_true rfl) dX6_says_198 (fun r61 S60 H locs hs hM => ?_)
                                exact m_reti X hK hM hs dX6_says_201
                  refine lv_if_eq (tgt := 135) hx hb dX6_says_114 (by decide) (fun c62 => ?_) (fun c62 => ?_)
                  · replace hs := ifp c62 hs
                    exact Ek135_46 _ _ _ hs hM (lv_sub hl [1, 2, 3] rfl)
                  · replace hs := ifn c62 hs
                    refine lv_iload_n hx hb dX6_says_117 rfl (lv_at hl 2 rfl) ?_
                    refine lv_iload hx hb dX6_says_118 (lv_at hl 4 rfl) ?_
                    refine lv_icmp_eq (tgt := 135) hx hb dX6_says_120 (by decide) (fun c61 => ?_) (fun c61 => ?_)
                    · replace hs := ifp c61 hs
                      exact Ek135_46 _ _ _ hs hM (lv_sub hl [1, 2, 3] rfl)
                    · replace hs := ifn c61 hs
                      refine lv_iload hx hb dX6_says_123 (lv_at hl 0 rfl) ?_
                      refine lv_if_ne (tgt := 135) hx hb dX6_says_125 (by decide) (fun _ => ?_) (fun c => absurd c (by decide))
                      exact Ek135_46 _ _ _ hs hM (lv_sub hl [1, 2, 3] rfl)
                · replace hs := ifn c63 hs
                  exact Ek94_8 _ _ _ hs hM hl
            obtain ⟨k106_65, hk106_65, hs⟩ := jn_ex hs
            have Ek106_65 : ∀ (H : Heap) (locs : List Loc) (ls : Array Slot), k106_65 → mI D dT A s.heap h ad S1 H locs → lv_has ls 6 [(0, .ref h), (2, .int a2), (3, .int v7), (4, .int v8)] → W p l e (mRm 3 63) s m args below meth c H locs 0 0 (MQ below (mQi D dT h ad K A) args s 0 0 A) (F0 m 106 ls []) := by
              intro H locs ls hs hM hl
              rw [hk106_65] at hs
              refine lv_iconst (v := 1) hx hb dX6_says_106 (by decide) ?_
              refine lv_goto (tgt := 111) hx hb dX6_says_107 (by decide) ?_
              refine lv_istore (lv' := [(5, .int 1), (0, .ref h), (2, .int a2), (3, .int v7), (4, .int v8)]) hx hb dX6_says_111 hl (by decide) rfl (fun ls hl => ?_)
              refine lv_iload_n hx hb dX6_says_113 rfl (lv_at hl 2 rfl) ?_
              obtain ⟨k135_65, hk135_65, hs⟩ := jn_ex hs
              have Ek135_65 : ∀ (H : Heap) (locs : List Loc) (ls : Array Slot), k135_65 → mI D dT A s.heap h ad S1 H locs → lv_has ls 6 [(0, .ref h), (2, .int a2), (3, .int v7)] → W p l e (mRm 3 63) s m args below meth c H locs 0 0 (MQ below (mQi D dT h ad K A) args s 0 0 A) (F0 m 135 ls []) := by
                intro H locs ls hs hM hl
                rw [hk135_65] at hs
                refine lv_aload_n hx hb dX6_says_135 rfl (lv_at hl 0 rfl) ?_
                refine lv_iload_n hx hb dX6_says_136 rfl (lv_at hl 2 rfl) ?_
                refine m_callv (rest := []) (av := fun ad => [.int v7]) X hK hA hM (met_puts l v7 _ _ hs) iX6_puts q1694 ⟨Nat.le_of_ble_eq_true rfl, Nat.le_of_ble_eq_true rfl⟩ rfl hl.1 rfl (Nat.le_of_ble_eq_true rfl) dX6_says_137 (fun S66 H locs hs hM => ?_)
                refine lv_iload_n hx hb dX6_says_140 rfl (lv_at hl 1 rfl) ?_
                by_cases c66_0 : a2 = 0
                · replace hs := ifp c66_0 hs
                  refine lv_tableIn (tgt := 180) hx hb dX6_says_141 (by rw [c66_0]; decide) (by rw [c66_0]; decide) (by rw [c66_0]; rfl) (by decide) ?_
                  refine lv_aload_n hx hb dX6_says_180 rfl (lv_at hl 0 rfl) ?_
                  refine m_geti (v := .ref (ad 13)) X hK hM 13 q1489 rfl rfl rfl dX6_says_181 ?_
                  refine lv_iload_n hx hb dX6_says_184 rfl (lv_at hl 2 rfl) ?_
                  obtain ⟨v68, ev68, hs⟩ := hs
                  refine m_iald X hK hM rfl ev68 dX6_says_185 ?_
                  exact m_reti X hK hM hs dX6_says_186
                · replace hs := ifn c66_0 hs
                  by_cases c66_1 : a2 = 1
                  · replace hs := ifp c66_1 hs
                    refine lv_tableIn (tgt := 187) hx hb dX6_says_141 (by rw [c66_1]; decide) (by rw [c66_1]; decide) (by rw [c66_1]; rfl) (by decide) ?_
                    refine lv_aload_n hx hb dX6_says_187 rfl (lv_at hl 0 rfl) ?_
                    refine m_calli (rest := []) (av := fun ad => []) X hK hA hM (met_puff l  _ _ hs) iX6_puff q1706 ⟨Nat.le_of_ble_eq_true rfl, Nat.le_of_ble_eq_true rfl⟩ rfl hl.1 rfl (Nat.le_of_ble_eq_true rfl) dX6_says_188 (fun r70 S69 H locs hs hM => ?_)
                    exact m_reti X hK hM hs dX6_says_191
                  · replace hs := ifn c66_1 hs
                    by_cases c66_2 : a2 = 2
                    · replace hs := ifp c66_2 hs
                      refine lv_tableIn (tgt := 192) hx hb dX6_says_141 (by rw [c66_2]; decide) (by rw [c66_2]; decide) (by rw [c66_2]; rfl) (by decide) ?_
                      refine lv_aload_n hx hb dX6_says_192 rfl (lv_at hl 0 rfl) ?_
                      refine m_calli (rest := []) (av := fun ad => []) X hK hA hM (met_stride l  _ _ hs) iX6_stride q1710 ⟨Nat.le_of_ble_eq_true rfl, Nat.le_of_ble_eq_true rfl⟩ rfl hl.1 rfl (Nat.le_of_ble_eq_true rfl) dX6_says_193 (fun r72 S71 H locs hs hM => ?_)
                      exact m_reti X hK hM hs dX6_says_196
                    · replace hs := ifn c66_2 hs
                      by_cases c66_3 : a2 = 3
                      · replace hs := ifp c66_3 hs
                        refine lv_tableIn (tgt := 187) hx hb dX6_says_141 (by rw [c66_3]; decide) (by rw [c66_3]; decide) (by rw [c66_3]; rfl) (by decide) ?_
                        refine lv_aload_n hx hb dX6_says_187 rfl (lv_at hl 0 rfl) ?_
                        refine m_calli (rest := []) (av := fun ad => []) X hK hA hM (met_puff l  _ _ hs) iX6_puff q1706 ⟨Nat.le_of_ble_eq_true rfl, Nat.le_of_ble_eq_true rfl⟩ rfl hl.1 rfl (Nat.le_of_ble_eq_true rfl) dX6_says_188 (fun r74 S73 H locs hs hM => ?_)
                        exact m_reti X hK hM hs dX6_says_191
                      · replace hs := ifn c66_3 hs
                        by_cases c66_4 : a2 = 4
                        · replace hs := ifp c66_4 hs
                          refine lv_tableIn (tgt := 197) hx hb dX6_says_141 (by rw [c66_4]; decide) (by rw [c66_4]; decide) (by rw [c66_4]; rfl) (by decide) ?_
                          refine lv_aload_n hx hb dX6_says_197 rfl (lv_at hl 0 rfl) ?_
                          refine m_calli (rest := []) (av := fun ad => []) X hK hA hM (met_risk l  _ _ hs) iX6_risk q1718 ⟨Nat.le_of_ble_eq_true rfl, Nat.le_of_ble_eq_true rfl⟩ rfl hl.1 rfl (Nat.le_of_ble_eq_true rfl) dX6_says_198 (fun r76 S75 H locs hs hM => ?_)
                          exact m_reti X hK hM hs dX6_says_201
                        · replace hs := ifn c66_4 hs
                          by_cases c66_5 : a2 = 5
                          · replace hs := ifp c66_5 hs
                            refine lv_tableIn (tgt := 192) hx hb dX6_says_141 (by rw [c66_5]; decide) (by rw [c66_5]; decide) (by rw [c66_5]; rfl) (by decide) ?_
                            refine lv_aload_n hx hb dX6_says_192 rfl (lv_at hl 0 rfl) ?_
                            refine m_calli (rest := []) (av := fun ad => []) X hK hA hM (met_stride l  _ _ hs) iX6_stride q1710 ⟨Nat.le_of_ble_eq_true rfl, Nat.le_of_ble_eq_true rfl⟩ rfl hl.1 rfl (Nat.le_of_ble_eq_true rfl) dX6_says_193 (fun r78 S77 H locs hs hM => ?_)
                            exact m_reti X hK hM hs dX6_says_196
                          · replace hs := ifn c66_5 hs
                            refine lv_tableOut (tgt := 197) hx hb dX6_says_141 (sw_out (fun k h1 h2 => by
                              have h3 : k = 0 ∨ k = 1 ∨ k = 2 ∨ k = 3 ∨ k = 4 ∨ k = 5 := by omega
                              rcases h3 with rfl | rfl | rfl | rfl | rfl | rfl
                              · exact lv_neT c66_0 rfl
                              · exact lv_neT c66_1 rfl
                              · exact lv_neT c66_2 rfl
                              · exact lv_neT c66_3 rfl
                              · exact lv_neT c66_4 rfl
                              · exact lv_neT c66_5 rfl
                              )) (by decide) ?_
                            refine lv_aload_n hx hb dX6_says_197 rfl (lv_at hl 0 rfl) ?_
                            refine m_calli (rest := []) (av := fun ad => []) X hK hA hM (met_risk l  _ _ hs) iX6_risk q1718 ⟨Nat.le_of_ble_eq_true rfl, Nat.le_of_ble_eq_true rfl⟩ rfl hl.1 rfl (Nat.le_of_ble_eq_true rfl) dX6_says_198 (fun r80 S79 H locs hs hM => ?_)
                            exact m_reti X hK hM hs dX6_says_201
              refine lv_if_eq (tgt := 135) hx hb dX6_says_114 (by decide) (fun c81 => ?_) (fun c81 => ?_)
              · replace hs := ifp c81 hs
                exact Ek135_65 _ _ _ hs hM (lv_sub hl [1, 2, 3] rfl)
              · replace hs := ifn c81 hs
                refine lv_iload_n hx hb dX6_says_117 rfl (lv_at hl 2 rfl) ?_
                refine lv_iload hx hb dX6_says_118 (lv_at hl 4 rfl) ?_
                refine lv_icmp_eq (tgt := 135) hx hb dX6_says_120 (by decide) (fun c80 => ?_) (fun c80 => ?_)
                · replace hs := ifp c80 hs
                  exact Ek135_65 _ _ _ hs hM (lv_sub hl [1, 2, 3] rfl)
                · replace hs := ifn c80 hs
                  refine lv_iload hx hb dX6_says_123 (lv_at hl 0 rfl) ?_
                  refine lv_if_ne (tgt := 135) hx hb dX6_says_125 (by decide) (fun _ => ?_) (fun c => absurd c (by decide))
                  exact Ek135_65 _ _ _ hs hM (lv_sub hl [1, 2, 3] rfl)
            obtain ⟨k111_83, hk111_83, hs⟩ := jn_ex hs
            have Ek111_83 : ∀ (v83 : Int32) (H : Heap) (locs : List Loc) (ls : Array Slot), k111_83 v83 → mI D dT A s.heap h ad S1 H locs → lv_has ls 6 [(0, .ref h), (2, .int a2), (3, .int v7), (4, .int v8)] → W p l e (mRm 3 63) s m args below meth c H locs 0 0 (MQ below (mQi D dT h ad K A) args s 0 0 A) (F0 m 111 ls [.int v83]) := by
              intro v83 H locs ls hs hM hl
              rw [hk111_83] at hs
              refine lv_istore (lv' := [(5, .int v83), (0, .ref h), (2, .int a2), (3, .int v7), (4, .int v8)]) hx hb dX6_says_111 hl (by decide) rfl (fun ls hl => ?_)
              refine lv_iload_n hx hb dX6_says_113 rfl (lv_at hl 2 rfl) ?_
              obtain ⟨k135_83, hk135_83, hs⟩ := jn_ex hs
              have Ek135_83 : ∀ (H : Heap) (locs : List Loc) (ls : Array Slot), k135_83 → mI D dT A s.heap h ad S1 H locs → lv_has ls 6 [(0, .ref h), (2, .int a2), (3, .int v7)] → W p l e (mRm 3 63) s m args below meth c H locs 0 0 (MQ below (mQi D dT h ad K A) args s 0 0 A) (F0 m 135 ls []) := by
                intro H locs ls hs hM hl
                rw [hk135_83] at hs
                refine lv_aload_n hx hb dX6_says_135 rfl (lv_at hl 0 rfl) ?_
                refine lv_iload_n hx hb dX6_says_136 rfl (lv_at hl 2 rfl) ?_
                refine m_callv (rest := []) (av := fun ad => [.int v7]) X hK hA hM (met_puts l v7 _ _ hs) iX6_puts q1694 ⟨Nat.le_of_ble_eq_true rfl, Nat.le_of_ble_eq_true rfl⟩ rfl hl.1 rfl (Nat.le_of_ble_eq_true rfl) dX6_says_137 (fun S84 H locs hs hM => ?_)
                refine lv_iload_n hx hb dX6_says_140 rfl (lv_at hl 1 rfl) ?_
                by_cases c84_0 : a2 = 0
                · replace hs := ifp c84_0 hs
                  refine lv_tableIn (tgt := 180) hx hb dX6_says_141 (by rw [c84_0]; decide) (by rw [c84_0]; decide) (by rw [c84_0]; rfl) (by decide) ?_
                  refine lv_aload_n hx hb dX6_says_180 rfl (lv_at hl 0 rfl) ?_
                  refine m_geti (v := .ref (ad 13)) X hK hM 13 q1489 rfl rfl rfl dX6_says_181 ?_
                  refine lv_iload_n hx hb dX6_says_184 rfl (lv_at hl 2 rfl) ?_
                  obtain ⟨v86, ev86, hs⟩ := hs
                  refine m_iald X hK hM rfl ev86 dX6_says_185 ?_
                  exact m_reti X hK hM hs dX6_says_186
                · replace hs := ifn c84_0 hs
                  by_cases c84_1 : a2 = 1
                  · replace hs := ifp c84_1 hs
                    refine lv_tableIn (tgt := 187) hx hb dX6_says_141 (by rw [c84_1]; decide) (by rw [c84_1]; decide) (by rw [c84_1]; rfl) (by decide) ?_
                    refine lv_aload_n hx hb dX6_says_187 rfl (lv_at hl 0 rfl) ?_
                    refine m_calli (rest := []) (av := fun ad => []) X hK hA hM (met_puff l  _ _ hs) iX6_puff q1706 ⟨Nat.le_of_ble_eq_true rfl, Nat.le_of_ble_eq_true rfl⟩ rfl hl.1 rfl (Nat.le_of_ble_eq_true rfl) dX6_says_188 (fun r88 S87 H locs hs hM => ?_)
                    exact m_reti X hK hM hs dX6_says_191
                  · replace hs := ifn c84_1 hs
                    by_cases c84_2 : a2 = 2
                    · replace hs := ifp c84_2 hs
                      refine lv_tableIn (tgt := 192) hx hb dX6_says_141 (by rw [c84_2]; decide) (by rw [c84_2]; decide) (by rw [c84_2]; rfl) (by decide) ?_
                      refine lv_aload_n hx hb dX6_says_192 rfl (lv_at hl 0 rfl) ?_
                      refine m_calli (rest := []) (av := fun ad => []) X hK hA hM (met_stride l  _ _ hs) iX6_stride q1710 ⟨Nat.le_of_ble_eq_true rfl, Nat.le_of_ble_eq_true rfl⟩ rfl hl.1 rfl (Nat.le_of_ble_eq_true rfl) dX6_says_193 (fun r90 S89 H locs hs hM => ?_)
                      exact m_reti X hK hM hs dX6_says_196
                    · replace hs := ifn c84_2 hs
                      by_cases c84_3 : a2 = 3
                      · replace hs := ifp c84_3 hs
                        refine lv_tableIn (tgt := 187) hx hb dX6_says_141 (by rw [c84_3]; decide) (by rw [c84_3]; decide) (by rw [c84_3]; rfl) (by decide) ?_
                        refine lv_aload_n hx hb dX6_says_187 rfl (lv_at hl 0 rfl) ?_
                        refine m_calli (rest := []) (av := fun ad => []) X hK hA hM (met_puff l  _ _ hs) iX6_puff q1706 ⟨Nat.le_of_ble_eq_true rfl, Nat.le_of_ble_eq_true rfl⟩ rfl hl.1 rfl (Nat.le_of_ble_eq_true rfl) dX6_says_188 (fun r92 S91 H locs hs hM => ?_)
                        exact m_reti X hK hM hs dX6_says_191
                      · replace hs := ifn c84_3 hs
                        by_cases c84_4 : a2 = 4
                        · replace hs := ifp c84_4 hs
                          refine lv_tableIn (tgt := 197) hx hb dX6_says_141 (by rw [c84_4]; decide) (by rw [c84_4]; decide) (by rw [c84_4]; rfl) (by decide) ?_
                          refine lv_aload_n hx hb dX6_says_197 rfl (lv_at hl 0 rfl) ?_
                          refine m_calli (rest := []) (av := fun ad => []) X hK hA hM (met_risk l  _ _ hs) iX6_risk q1718 ⟨Nat.le_of_ble_eq_true rfl, Nat.le_of_ble_eq_true rfl⟩ rfl hl.1 rfl (Nat.le_of_ble_eq_true rfl) dX6_says_198 (fun r94 S93 H locs hs hM => ?_)
                          exact m_reti X hK hM hs dX6_says_201
                        · replace hs := ifn c84_4 hs
                          by_cases c84_5 : a2 = 5
                          · replace hs := ifp c84_5 hs
                            refine lv_tableIn (tgt := 192) hx hb dX6_says_141 (by rw [c84_5]; decide) (by rw [c84_5]; decide) (by rw [c84_5]; rfl) (by decide) ?_
                            refine lv_aload_n hx hb dX6_says_192 rfl (lv_at hl 0 rfl) ?_
                            refine m_calli (rest := []) (av := fun ad => []) X hK hA hM (met_stride l  _ _ hs) iX6_stride q1710 ⟨Nat.le_of_ble_eq_true rfl, Nat.le_of_ble_eq_true rfl⟩ rfl hl.1 rfl (Nat.le_of_ble_eq_true rfl) dX6_says_193 (fun r96 S95 H locs hs hM => ?_)
                            exact m_reti X hK hM hs dX6_says_196
                          · replace hs := ifn c84_5 hs
                            refine lv_tableOut (tgt := 197) hx hb dX6_says_141 (sw_out (fun k h1 h2 => by
                              have h3 : k = 0 ∨ k = 1 ∨ k = 2 ∨ k = 3 ∨ k = 4 ∨ k = 5 := by omega
                              rcases h3 with rfl | rfl | rfl | rfl | rfl | rfl
                              · exact lv_neT c84_0 rfl
                              · exact lv_neT c84_1 rfl
                              · exact lv_neT c84_2 rfl
                              · exact lv_neT c84_3 rfl
                              · exact lv_neT c84_4 rfl
                              · exact lv_neT c84_5 rfl
                              )) (by decide) ?_
                            refine lv_aload_n hx hb dX6_says_197 rfl (lv_at hl 0 rfl) ?_
                            refine m_calli (rest := []) (av := fun ad => []) X hK hA hM (met_risk l  _ _ hs) iX6_risk q1718 ⟨Nat.le_of_ble_eq_true rfl, Nat.le_of_ble_eq_true rfl⟩ rfl hl.1 rfl (Nat.le_of_ble_eq_true rfl) dX6_says_198 (fun r98 S97 H locs hs hM => ?_)
                            exact m_reti X hK hM hs dX6_says_201
              refine lv_if_eq (tgt := 135) hx hb dX6_says_114 (by decide) (fun c102 => ?_) (fun c102 => ?_)
              · replace hs := ifp c102 hs
                exact Ek135_83 _ _ _ hs hM (lv_sub hl [1, 2, 3] rfl)
              · replace hs := ifn c102 hs
                refine lv_iload_n hx hb dX6_says_117 rfl (lv_at hl 2 rfl) ?_
                refine lv_iload hx hb dX6_says_118 (lv_at hl 4 rfl) ?_
                refine lv_icmp_eq (tgt := 135) hx hb dX6_says_120 (by decide) (fun c101 => ?_) (fun c101 => ?_)
                · replace hs := ifp c101 hs
                  exact Ek135_83 _ _ _ hs hM (lv_sub hl [1, 2, 3] rfl)
                · replace hs := ifn c101 hs
                  refine lv_iload hx hb dX6_says_123 (lv_at hl 0 rfl) ?_
                  refine lv_if_ne (tgt := 135) hx hb dX6_says_125 (by decide) (fun c100 => ?_) (fun c100 => ?_)
                  · replace hs := ifn c100 hs
                    exact Ek135_83 _ _ _ hs hM (lv_sub hl [1, 2, 3] rfl)
                  · replace hs := ifp c100 hs
                    refine lv_aload_n hx hb dX6_says_128 rfl (lv_at hl 1 rfl) ?_
                    refine lv_bipush (v := (-2)) hx hb dX6_says_129 (by decide) ?_
                    refine m_calli (rest := []) (av := fun ad => [.int (-2)]) X hK hA hM (met_no l (-2) _ _ hs) iX6_no q1662 ⟨Nat.le_of_ble_eq_true rfl, Nat.le_of_ble_eq_true rfl⟩ rfl hl.1 rfl (Nat.le_of_ble_eq_true rfl) dX6_says_131 (fun r100 S99 H locs hs hM => ?_)
                    exact m_reti X hK hM hs dX6_says_134
            refine lv_icmp_ne (tgt := 83) hx hb dX6_says_74 (by decide) (fun c104 => ?_) (fun c104 => ?_)
            · replace hs := ifn c104 hs
              exact Ek83_8 _ _ _ hs hM (lv_sub hl [2, 4, 1, 0] rfl)
            · replace hs := ifp c104 hs
              refine lv_iload hx hb dX6_says_77 (lv_at hl 0 rfl) ?_
              refine lv_iconst (v := 3) hx hb dX6_says_79 (by decide) ?_
              refine lv_icmp_eq (tgt := 106) hx hb dX6_says_80 (by decide) (fun c103 => ?_) (fun c103 => ?_)
              · replace hs := ifp c103 hs
                exact Ek106_65 _ _ _ hs hM (lv_sub hl [2, 4, 1, 0] rfl)
              · replace hs := ifn c103 hs
                exact Ek83_8 _ _ _ hs hM (lv_sub hl [2, 4, 1, 0] rfl)
          · replace hs := ifp c107 hs
            refine lv_aload_n hx hb dX6_says_50 rfl (lv_at hl 0 rfl) ?_
            refine lv_bipush (v := (-3)) hx hb dX6_says_51 (by decide) ?_
            refine m_calli (rest := []) (av := fun ad => [.int (-3)]) X hK hA hM (met_no l (-3) _ _ hs) iX6_no q1662 ⟨Nat.le_of_ble_eq_true rfl, Nat.le_of_ble_eq_true rfl⟩ rfl hl.1 rfl (Nat.le_of_ble_eq_true rfl) dX6_says_53 (fun r107 S106 H locs hs hM => ?_)
            exact m_reti X hK hM hs dX6_says_56
        · replace hs := ifp c110 hs
          refine lv_aload_n hx hb dX6_says_34 rfl (lv_at hl 0 rfl) ?_
          refine lv_bipush (v := (-2)) hx hb dX6_says_35 (by decide) ?_
          refine m_calli (rest := []) (av := fun ad => [.int (-2)]) X hK hA hM (met_no l (-2) _ _ hs) iX6_no q1662 ⟨Nat.le_of_ble_eq_true rfl, Nat.le_of_ble_eq_true rfl⟩ rfl hl.1 rfl (Nat.le_of_ble_eq_true rfl) dX6_says_37 (fun r110 S109 H locs hs hM => ?_)
          exact m_reti X hK hM hs dX6_says_40
      · replace hs := ifn c111 hs
        exact Ek18_2 _ _ _ hs hM (lv_sub hl [0] rfl)
