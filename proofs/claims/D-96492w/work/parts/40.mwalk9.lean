set_option maxRecDepth 100000
def m_falling (a1 : Int32) (a2 : Int32) (S : MS) (K : Int32 → MS → Prop) : Prop := obd (mald S 11 a1) (fun v1 => jn (fun (x2 : Int32) (S3 : MS) => jn (fun (x4 : Int32) (S5 : MS) => jn (jn (fun (S6 : MS) => m_body 11 S6 (fun S7 => m_hopping a1 x4 S7 (fun r9 S8 => K ((r9 * 2) * 3) S8))) (fun k76_6 => m_body 30 S5 (fun S10 => k76_6 S10))) (fun k58_5 => jn (fun (v11 : Int32) => jn (fun (S12 : MS) => m_body 11 S12 (fun S13 => m_hopping a1 x4 S13 (fun r15 S14 => (if v11 = 0 then K (r15 * 2) S14 else K ((r15 * 2) * 3) S14)))) (fun k76_12 => (if v11 = 0 then k76_12 S5 else m_body 30 S5 (fun S17 => k76_12 S17)))) (fun k63_11 => (if v1 = 2 then k58_5 else (if v1 = 5 then k58_5 else k63_11 0))))) (fun k48_5 => (if v1 = 3 then m_body 40 S3 (fun S21 => k48_5 (a2 + 1) S21) else k48_5 x2 S3))) (fun k32_3 => (if v1 = 6 then m_body 71 S (fun S23 => obd (mald S23 12 a1) (fun v24 => k32_3 (a2 - v24) S23)) else k32_3 a2 S)))
theorem iX6_falling : mInf yX6_falling cX6_falling 7 (some .int) 2 := ⟨q2009, qs91, q2010, by decide +kernel⟩
set_option maxHeartbeats 4000000 in
theorem met_falling (l : Launch) (a1 : Int32) (a2 : Int32) (S : MS) (K : Int32 → MS → Prop) (hs : m_falling a1 a2 S K) : mMeti l yX6_falling cX6_falling 7 2 45 S (fun ad => [.int a1, .int a2]) K := by
  intro D dT h ad sz
  refine mEnter (Qc := mQi D dT h ad K) (by decide) rfl (by rfl) ?_
  intro p e s m args below meth c A ls X hK hA hM hl
  have hx := X.1
  have hb := X.2.1
  have hts := X.2.2.2.2.1
  have hown := X.2.2.2.2.2.1
  have hl : lv_has ls 7 [(0, .ref h), (1, .int a1), (2, .int a2)] := hl
  unfold m_falling at hs
  refine lv_aload_n hx hb dX6_falling_0 rfl (lv_at hl 0 rfl) ?_
  refine m_geti (v := .ref (ad 11)) X hK hM 11 q1487 rfl rfl rfl dX6_falling_1 ?_
  refine lv_iload_n hx hb dX6_falling_4 rfl (lv_at hl 1 rfl) ?_
  obtain ⟨v1, ev1, hs⟩ := hs
  refine m_iald X hK hM rfl ev1 dX6_falling_5 ?_
  refine lv_istore_n (lv' := [(3, .int v1), (0, .ref h), (1, .int a1), (2, .int a2)]) hx hb dX6_falling_6 rfl hl (by decide) rfl (fun ls hl => ?_)
  refine lv_iload_n hx hb dX6_falling_7 rfl (lv_at hl 3 rfl) ?_
  refine lv_istore (lv' := [(4, .int a2), (3, .int v1), (0, .ref h), (1, .int a1), (2, .int a2)]) hx hb dX6_falling_8 hl (by decide) rfl (fun ls hl => ?_)
  refine lv_iload_n hx hb dX6_falling_10 rfl (lv_at hl 1 rfl) ?_
  refine lv_bipush (v := 6) hx hb dX6_falling_11 (by decide) ?_
  obtain ⟨k32_3, hk32_3, hs⟩ := jn_ex hs
  have Ek32_3 : ∀ (x2 : Int32) (S3 : MS) (H : Heap) (locs : List Loc) (ls : Array Slot), k32_3 x2 S3 → mI D dT A s.heap h ad S3 H locs → lv_has ls 7 [(0, .ref h), (1, .int a1), (2, .int a2), (3, .int v1), (4, .int x2)] → W p l e (mRm 2 45) s m args below meth c H locs 0 0 (MQ below (mQi D dT h ad K A) args s 0 0 A) (F0 m 32 ls []) := by
    intro x2 S3 H locs ls hs hM hl
    rw [hk32_3] at hs
    refine lv_iload_n hx hb dX6_falling_32 rfl (lv_at hl 3 rfl) ?_
    refine lv_iconst (v := 3) hx hb dX6_falling_33 (by decide) ?_
    obtain ⟨k48_5, hk48_5, hs⟩ := jn_ex hs
    have Ek48_5 : ∀ (x4 : Int32) (S5 : MS) (H : Heap) (locs : List Loc) (ls : Array Slot), k48_5 x4 S5 → mI D dT A s.heap h ad S5 H locs → lv_has ls 7 [(0, .ref h), (1, .int a1), (3, .int v1), (4, .int x4)] → W p l e (mRm 2 45) s m args below meth c H locs 0 0 (MQ below (mQi D dT h ad K A) args s 0 0 A) (F0 m 48 ls []) := by
      intro x4 S5 H locs ls hs hM hl
      rw [hk48_5] at hs
      refine lv_iload_n hx hb dX6_falling_48 rfl (lv_at hl 2 rfl) ?_
      refine lv_iconst (v := 2) hx hb dX6_falling_49 (by decide) ?_
      obtain ⟨k58_5, hk58_5, hs⟩ := jn_ex hs
      have Ek58_5 : ∀ (H : Heap) (locs : List Loc) (ls : Array Slot), k58_5 → mI D dT A s.heap h ad S5 H locs → lv_has ls 7 [(0, .ref h), (1, .int a1), (4, .int x4)] → W p l e (mRm 2 45) s m args below meth c H locs 0 0 (MQ below (mQi D dT h ad K A) args s 0 0 A) (F0 m 58 ls []) := by
        intro H locs ls hs hM hl
        rw [hk58_5] at hs
        refine lv_iconst (v := 1) hx hb dX6_falling_58 (by decide) ?_
        refine lv_goto (tgt := 63) hx hb dX6_falling_59 (by decide) ?_
        refine lv_istore (lv' := [(5, .int 1), (0, .ref h), (1, .int a1), (4, .int x4)]) hx hb dX6_falling_63 hl (by decide) rfl (fun ls hl => ?_)
        refine lv_iload hx hb dX6_falling_65 (lv_at hl 0 rfl) ?_
        obtain ⟨k76_6, hk76_6, hs⟩ := jn_ex hs
        have Ek76_6 : ∀ (S6 : MS) (H : Heap) (locs : List Loc) (ls : Array Slot), k76_6 S6 → mI D dT A s.heap h ad S6 H locs → lv_has ls 7 [(0, .ref h), (1, .int a1), (4, .int x4), (5, .int 1)] → W p l e (mRm 2 45) s m args below meth c H locs 0 0 (MQ below (mQi D dT h ad K A) args s 0 0 A) (F0 m 76 ls []) := by
          intro S6 H locs ls hs hM hl
          rw [hk76_6] at hs
          refine lv_aload_n hx hb dX6_falling_76 rfl (lv_at hl 0 rfl) ?_
          refine lv_bipush (v := 11) hx hb dX6_falling_77 (by decide) ?_
          refine m_callv (rest := []) (av := fun ad => [.int 11]) X hK hA hM (met_body l 11 _ _ hs) iX6_body q2003 ⟨Nat.le_of_ble_eq_true rfl, Nat.le_of_ble_eq_true rfl⟩ rfl hl.1 rfl (Nat.le_of_ble_eq_true rfl) dX6_falling_79 (fun S7 H locs hs hM => ?_)
          refine lv_aload_n hx hb dX6_falling_82 rfl (lv_at hl 0 rfl) ?_
          refine lv_iload_n hx hb dX6_falling_83 rfl (lv_at hl 1 rfl) ?_
          refine lv_iload hx hb dX6_falling_84 (lv_at hl 2 rfl) ?_
          refine m_calli (rest := []) (av := fun ad => [.int a1, .int x4]) X hK hA hM (met_hopping l a1 x4 _ _ hs) iX6_hopping q1999 ⟨Nat.le_of_ble_eq_true rfl, Nat.le_of_ble_eq_true rfl⟩ rfl hl.1 rfl (Nat.le_of_ble_eq_true rfl) dX6_falling_86 (fun r9 S8 H locs hs hM => ?_)
          refine lv_iconst (v := 2) hx hb dX6_falling_89 (by decide) ?_
          refine lv_imul hx hb dX6_falling_90 ?_
          refine lv_istore (lv' := [(6, .int (r9 * 2)), (0, .ref h), (1, .int a1), (4, .int x4), (5, .int 1)]) hx hb dX6_falling_91 hl (by decide) rfl (fun ls hl => ?_)
          refine lv_iload hx hb dX6_falling_93 (lv_at hl 4 rfl) ?_
          refine lv_if_eq (tgt := 105) hx hb dX6_falling_95 (by decide) (fun c => absurd c (by decide)) (fun _ => ?_)
          refine lv_iload hx hb dX6_falling_98 (lv_at hl 0 rfl) ?_
          refine lv_iconst (v := 3) hx hb dX6_falling_100 (by decide) ?_
          refine lv_imul hx hb dX6_falling_101 ?_
          refine lv_goto (tgt := 107) hx hb dX6_falling_102 (by decide) ?_
          exact m_reti X hK hM hs dX6_falling_107
        refine lv_if_eq (tgt := 76) hx hb dX6_falling_67 (by decide) (fun c => absurd c (by decide)) (fun _ => ?_)
        refine lv_aload_n hx hb dX6_falling_70 rfl (lv_at hl 1 rfl) ?_
        refine lv_bipush (v := 30) hx hb dX6_falling_71 (by decide) ?_
        refine m_callv (rest := []) (av := fun ad => [.int 30]) X hK hA hM (met_body l 30 _ _ hs) iX6_body q2003 ⟨Nat.le_of_ble_eq_true rfl, Nat.le_of_ble_eq_true rfl⟩ rfl hl.1 rfl (Nat.le_of_ble_eq_true rfl) dX6_falling_73 (fun S10 H locs hs hM => ?_)
        exact Ek76_6 _ _ _ _ hs hM (lv_sub hl [1, 2, 3, 0] rfl)
      obtain ⟨k63_11, hk63_11, hs⟩ := jn_ex hs
      have Ek63_11 : ∀ (v11 : Int32) (H : Heap) (locs : List Loc) (ls : Array Slot), k63_11 v11 → mI D dT A s.heap h ad S5 H locs → lv_has ls 7 [(0, .ref h), (1, .int a1), (4, .int x4)] → W p l e (mRm 2 45) s m args below meth c H locs 0 0 (MQ below (mQi D dT h ad K A) args s 0 0 A) (F0 m 63 ls [.int v11]) := by
        intro v11 H locs ls hs hM hl
        rw [hk63_11] at hs
        refine lv_istore (lv' := [(5, .int v11), (0, .ref h), (1, .int a1), (4, .int x4)]) hx hb dX6_falling_63 hl (by decide) rfl (fun ls hl => ?_)
        refine lv_iload hx hb dX6_falling_65 (lv_at hl 0 rfl) ?_
        obtain ⟨k76_12, hk76_12, hs⟩ := jn_ex hs
        have Ek76_12 : ∀ (S12 : MS) (H : Heap) (locs : List Loc) (ls : Array Slot), k76_12 S12 → mI D dT A s.heap h ad S12 H locs → lv_has ls 7 [(0, .ref h), (1, .int a1), (4, .int x4), (5, .int v11)] → W p l e (mRm 2 45) s m args below meth c H locs 0 0 (MQ below (mQi D dT h ad K A) args s 0 0 A) (F0 m 76 ls []) := by
          intro S12 H locs ls hs hM hl
          rw [hk76_12] at hs
          refine lv_aload_n hx hb dX6_falling_76 rfl (lv_at hl 0 rfl) ?_
          refine lv_bipush (v := 11) hx hb dX6_falling_77 (by decide) ?_
          refine m_callv (rest := []) (av := fun ad => [.int 11]) X hK hA hM (met_body l 11 _ _ hs) iX6_body q2003 ⟨Nat.le_of_ble_eq_true rfl, Nat.le_of_ble_eq_true rfl⟩ rfl hl.1 rfl (Nat.le_of_ble_eq_true rfl) dX6_falling_79 (fun S13 H locs hs hM => ?_)
          refine lv_aload_n hx hb dX6_falling_82 rfl (lv_at hl 0 rfl) ?_
          refine lv_iload_n hx hb dX6_falling_83 rfl (lv_at hl 1 rfl) ?_
          refine lv_iload hx hb dX6_falling_84 (lv_at hl 2 rfl) ?_
          refine m_calli (rest := []) (av := fun ad => [.int a1, .int x4]) X hK hA hM (met_hopping l a1 x4 _ _ hs) iX6_hopping q1999 ⟨Nat.le_of_ble_eq_true rfl, Nat.le_of_ble_eq_true rfl⟩ rfl hl.1 rfl (Nat.le_of_ble_eq_true rfl) dX6_falling_86 (fun r15 S14 H locs hs hM => ?_)
          refine lv_iconst (v := 2) hx hb dX6_falling_89 (by decide) ?_
          refine lv_imul hx hb dX6_falling_90 ?_
          refine lv_istore (lv' := [(6, .int (r15 * 2)), (0, .ref h), (1, .int a1), (4, .int x4), (5, .int v11)]) hx hb dX6_falling_91 hl (by decide) rfl (fun ls hl => ?_)
          refine lv_iload hx hb dX6_falling_93 (lv_at hl 4 rfl) ?_
          refine lv_if_eq (tgt := 105) hx hb dX6_falling_95 (by decide) (fun c15 => ?_) (fun c15 => ?_)
          · replace hs := ifp c15 hs
            refine lv_iload hx hb dX6_falling_105 (lv_at hl 0 rfl) ?_
            exact m_reti X hK hM hs dX6_falling_107
          · replace hs := ifn c15 hs
            refine lv_iload hx hb dX6_falling_98 (lv_at hl 0 rfl) ?_
            refine lv_iconst (v := 3) hx hb dX6_falling_100 (by decide) ?_
            refine lv_imul hx hb dX6_falling_101 ?_
            refine lv_goto (tgt := 107) hx hb dX6_falling_102 (by decide) ?_
            exact m_reti X hK hM hs dX6_falling_107
        refine lv_if_eq (tgt := 76) hx hb dX6_falling_67 (by decide) (fun c17 => ?_) (fun c17 => ?_)
        · replace hs := ifp c17 hs
          exact Ek76_12 _ _ _ _ hs hM (lv_sub hl [1, 2, 3, 0] rfl)
        · replace hs := ifn c17 hs
          refine lv_aload_n hx hb dX6_falling_70 rfl (lv_at hl 1 rfl) ?_
          refine lv_bipush (v := 30) hx hb dX6_falling_71 (by decide) ?_
          refine m_callv (rest := []) (av := fun ad => [.int 30]) X hK hA hM (met_body l 30 _ _ hs) iX6_body q2003 ⟨Nat.le_of_ble_eq_true rfl, Nat.le_of_ble_eq_true rfl⟩ rfl hl.1 rfl (Nat.le_of_ble_eq_true rfl) dX6_falling_73 (fun S17 H locs hs hM => ?_)
          exact Ek76_12 _ _ _ _ hs hM (lv_sub hl [1, 2, 3, 0] rfl)
      refine lv_icmp_eq (tgt := 58) hx hb dX6_falling_50 (by decide) (fun c19 => ?_) (fun c19 => ?_)
      · replace hs := ifp c19 hs
        exact Ek58_5 _ _ _ hs hM (lv_sub hl [0, 1, 3] rfl)
      · replace hs := ifn c19 hs
        refine lv_iload_n hx hb dX6_falling_53 rfl (lv_at hl 2 rfl) ?_
        refine lv_iconst (v := 5) hx hb dX6_falling_54 (by decide) ?_
        refine lv_icmp_ne (tgt := 62) hx hb dX6_falling_55 (by decide) (fun c18 => ?_) (fun c18 => ?_)
        · replace hs := ifn c18 hs
          refine lv_iconst (v := 0) hx hb dX6_falling_62 (by decide) ?_
          exact Ek63_11 _ _ _ _ hs hM (lv_sub hl [0, 1, 3] rfl)
        · replace hs := ifp c18 hs
          exact Ek58_5 _ _ _ hs hM (lv_sub hl [0, 1, 3] rfl)
    refine lv_icmp_ne (tgt := 48) hx hb dX6_falling_34 (by decide) (fun c21 => ?_) (fun c21 => ?_)
    · replace hs := ifn c21 hs
      exact Ek48_5 _ _ _ _ _ hs hM (lv_sub hl [0, 1, 3, 4] rfl)
    · replace hs := ifp c21 hs
      refine lv_aload_n hx hb dX6_falling_37 rfl (lv_at hl 0 rfl) ?_
      refine lv_bipush (v := 40) hx hb dX6_falling_38 (by decide) ?_
      refine m_callv (rest := []) (av := fun ad => [.int 40]) X hK hA hM (met_body l 40 _ _ hs) iX6_body q2003 ⟨Nat.le_of_ble_eq_true rfl, Nat.le_of_ble_eq_true rfl⟩ rfl hl.1 rfl (Nat.le_of_ble_eq_true rfl) dX6_falling_40 (fun S21 H locs hs hM => ?_)
      refine lv_iload_n hx hb dX6_falling_43 rfl (lv_at hl 2 rfl) ?_
      refine lv_iconst (v := 1) hx hb dX6_falling_44 (by decide) ?_
      refine lv_iadd hx hb dX6_falling_45 ?_
      refine lv_istore (lv' := [(4, .int (a2 + 1)), (0, .ref h), (1, .int a1), (2, .int a2), (3, .int v1)]) hx hb dX6_falling_46 hl (by decide) rfl (fun ls hl => ?_)
      exact Ek48_5 _ _ _ _ _ hs hM (lv_sub hl [1, 2, 4, 0] rfl)
  refine lv_icmp_ne (tgt := 32) hx hb dX6_falling_13 (by decide) (fun c24 => ?_) (fun c24 => ?_)
  · replace hs := ifn c24 hs
    exact Ek32_3 _ _ _ _ _ hs hM (lv_sub hl [2, 3, 4, 1, 0] rfl)
  · replace hs := ifp c24 hs
    refine lv_aload_n hx hb dX6_falling_16 rfl (lv_at hl 2 rfl) ?_
    refine lv_bipush (v := 71) hx hb dX6_falling_17 (by decide) ?_
    refine m_callv (rest := []) (av := fun ad => [.int 71]) X hK hA hM (met_body l 71 _ _ hs) iX6_body q2003 ⟨Nat.le_of_ble_eq_true rfl, Nat.le_of_ble_eq_true rfl⟩ rfl hl.1 rfl (Nat.le_of_ble_eq_true rfl) dX6_falling_19 (fun S23 H locs hs hM => ?_)
    refine lv_iload_n hx hb dX6_falling_22 rfl (lv_at hl 4 rfl) ?_
    refine lv_aload_n hx hb dX6_falling_23 rfl (lv_at hl 2 rfl) ?_
    refine m_geti (v := .ref (ad 12)) X hK hM 12 q1488 rfl rfl rfl dX6_falling_24 ?_
    refine lv_iload_n hx hb dX6_falling_27 rfl (lv_at hl 3 rfl) ?_
    obtain ⟨v24, ev24, hs⟩ := hs
    refine m_iald X hK hM rfl ev24 dX6_falling_28 ?_
    refine lv_isub hx hb dX6_falling_29 ?_
    refine lv_istore (lv' := [(4, .int (a2 - v24)), (3, .int v1), (0, .ref h), (1, .int a1), (2, .int a2)]) hx hb dX6_falling_30 hl (by decide) rfl (fun ls hl => ?_)
    exact Ek32_3 _ _ _ _ _ hs hM (lv_sub hl [2, 3, 4, 1, 0] rfl)
def m_rising (a1 : Int32) (a2 : Int32) (S : MS) (K : Int32 → MS → Prop) : Prop := obd (mald S 11 a1) (fun v1 => jn (m_body 50 S (fun S2 => jn (fun (S3 : MS) => m_body 12 S3 (fun S4 => m_falling a1 a2 S4 (fun r6 S5 => obd (mald S5 12 a1) (fun v7 => m_hopping a1 (a2 - v7) S5 (fun r9 S8 => (if v1 = 4 then K (-(r6 ^^^ r9)) S8 else (if v1 = 6 then K (-(r6 ^^^ r9)) S8 else (if v1 = 5 then K ((r6 ^^^ r9) ^^^ 5) S8 else K (r6 ^^^ r9) S8)))))))) (fun k35_3 => (if v1 = 5 then m_body 60 S2 (fun S13 => k35_3 S13) else k35_3 S2)))) (fun k18_1 => jn (fun (S15 : MS) => jn (fun (S16 : MS) => m_body 12 S16 (fun S17 => m_falling a1 a2 S17 (fun r19 S18 => obd (mald S18 12 a1) (fun v20 => m_hopping a1 (a2 - v20) S18 (fun r22 S21 => (if v1 = 4 then K (-(r19 ^^^ r22)) S21 else (if v1 = 6 then K (-(r19 ^^^ r22)) S21 else (if v1 = 5 then K ((r19 ^^^ r22) ^^^ 5) S21 else K (r19 ^^^ r22) S21)))))))) (fun k35_16 => (if v1 = 5 then m_body 60 S15 (fun S26 => k35_16 S26) else k35_16 S15))) (fun k24_15 => (if v1 = 4 then k18_1 else (if v1 = 6 then k18_1 else k24_15 S)))))
theorem iX6_rising : mInf yX6_rising cX6_rising 5 (some .int) 2 := ⟨q2013, qs92, q2014, by decide +kernel⟩
set_option maxHeartbeats 4000000 in
theorem met_rising (l : Launch) (a1 : Int32) (a2 : Int32) (S : MS) (K : Int32 → MS → Prop) (hs : m_rising a1 a2 S K) : mMeti l yX6_rising cX6_rising 5 3 71 S (fun ad => [.int a1, .int a2]) K := by
  intro D dT h ad sz
  refine mEnter (Qc := mQi D dT h ad K) (by decide) rfl (by rfl) ?_
  intro p e s m args below meth c A ls X hK hA hM hl
  have hx := X.1
  have hb := X.2.1
  have hts := X.2.2.2.2.1
  have hown := X.2.2.2.2.2.1
  have hl : lv_has ls 5 [(0, .ref h), (1, .int a1), (2, .int a2)] := hl
  unfold m_rising at hs
  refine lv_aload_n hx hb dX6_rising_0 rfl (lv_at hl 0 rfl) ?_
  refine m_geti (v := .ref (ad 11)) X hK hM 11 q1487 rfl rfl rfl dX6_rising_1 ?_
  refine lv_iload_n hx hb dX6_rising_4 rfl (lv_at hl 1 rfl) ?_
  obtain ⟨v1, ev1, hs⟩ := hs
  refine m_iald X hK hM rfl ev1 dX6_rising_5 ?_
  refine lv_istore_n (lv' := [(3, .int v1), (0, .ref h), (1, .int a1), (2, .int a2)]) hx hb dX6_rising_6 rfl hl (by decide) rfl (fun ls hl => ?_)
  refine lv_iload_n hx hb dX6_rising_7 rfl (lv_at hl 0 rfl) ?_
  refine lv_iconst (v := 4) hx hb dX6_rising_8 (by decide) ?_
  obtain ⟨k18_1, hk18_1, hs⟩ := jn_ex hs
  have Ek18_1 : ∀ (H : Heap) (locs : List Loc) (ls : Array Slot), k18_1 → mI D dT A s.heap h ad S H locs → lv_has ls 5 [(0, .ref h), (1, .int a1), (2, .int a2), (3, .int v1)] → W p l e (mRm 3 71) s m args below meth c H locs 0 0 (MQ below (mQi D dT h ad K A) args s 0 0 A) (F0 m 18 ls []) := by
    intro H locs ls hs hM hl
    rw [hk18_1] at hs
    refine lv_aload_n hx hb dX6_rising_18 rfl (lv_at hl 0 rfl) ?_
    refine lv_bipush (v := 50) hx hb dX6_rising_19 (by decide) ?_
    refine m_callv (rest := []) (av := fun ad => [.int 50]) X hK hA hM (met_body l 50 _ _ hs) iX6_body q2003 ⟨Nat.le_of_ble_eq_true rfl, Nat.le_of_ble_eq_true rfl⟩ rfl hl.1 rfl (Nat.le_of_ble_eq_true rfl) dX6_rising_21 (fun S2 H locs hs hM => ?_)
    refine lv_iload_n hx hb dX6_rising_24 rfl (lv_at hl 3 rfl) ?_
    refine lv_iconst (v := 5) hx hb dX6_rising_25 (by decide) ?_
    obtain ⟨k35_3, hk35_3, hs⟩ := jn_ex hs
    have Ek35_3 : ∀ (S3 : MS) (H : Heap) (locs : List Loc) (ls : Array Slot), k35_3 S3 → mI D dT A s.heap h ad S3 H locs → lv_has ls 5 [(0, .ref h), (1, .int a1), (2, .int a2), (3, .int v1)] → W p l e (mRm 3 71) s m args below meth c H locs 0 0 (MQ below (mQi D dT h ad K A) args s 0 0 A) (F0 m 35 ls []) := by
      intro S3 H locs ls hs hM hl
      rw [hk35_3] at hs
      refine lv_aload_n hx hb dX6_rising_35 rfl (lv_at hl 0 rfl) ?_
      refine lv_bipush (v := 12) hx hb dX6_rising_36 (by decide) ?_
      refine m_callv (rest := []) (av := fun ad => [.int 12]) X hK hA hM (met_body l 12 _ _ hs) iX6_body q2003 ⟨Nat.le_of_ble_eq_true rfl, Nat.le_of_ble_eq_true rfl⟩ rfl hl.1 rfl (Nat.le_of_ble_eq_true rfl) dX6_rising_38 (fun S4 H locs hs hM => ?_)
      refine lv_aload_n hx hb dX6_rising_41 rfl (lv_at hl 0 rfl) ?_
      refine lv_iload_n hx hb dX6_rising_42 rfl (lv_at hl 1 rfl) ?_
      refine lv_iload_n hx hb dX6_rising_43 rfl (lv_at hl 2 rfl) ?_
      refine m_calli (rest := []) (av := fun ad => [.int a1, .int a2]) X hK hA hM (met_falling l a1 a2 _ _ hs) iX6_falling q2007 ⟨Nat.le_of_ble_eq_true rfl, Nat.le_of_ble_eq_true rfl⟩ rfl hl.1 rfl (Nat.le_of_ble_eq_true rfl) dX6_rising_44 (fun r6 S5 H locs hs hM => ?_)
      refine lv_istore (lv' := [(4, .int r6), (0, .ref h), (1, .int a1), (2, .int a2), (3, .int v1)]) hx hb dX6_rising_47 hl (by decide) rfl (fun ls hl => ?_)
      refine lv_iload hx hb dX6_rising_49 (lv_at hl 0 rfl) ?_
      refine lv_aload_n hx hb dX6_rising_51 rfl (lv_at hl 1 rfl) ?_
      refine lv_iload_n hx hb dX6_rising_52 rfl (lv_at hl 2 rfl) ?_
      refine lv_iload_n hx hb dX6_rising_53 rfl (lv_at hl 3 rfl) ?_
      refine lv_aload_n hx hb dX6_rising_54 rfl (lv_at hl 1 rfl) ?_
      refine m_geti (v := .ref (ad 12)) X hK hM 12 q1488 rfl rfl rfl dX6_rising_55 ?_
      refine lv_iload_n hx hb dX6_rising_58 rfl (lv_at hl 2 rfl) ?_
      obtain ⟨v7, ev7, hs⟩ := hs
      refine m_iald X hK hM rfl ev7 dX6_rising_59 ?_
      refine lv_isub hx hb dX6_rising_60 ?_
      refine m_calli (rest := [.int r6]) (av := fun ad => [.int a1, .int (a2 - v7)]) X hK hA hM (met_hopping l a1 (a2 - v7) _ _ hs) iX6_hopping q1999 ⟨Nat.le_of_ble_eq_true rfl, Nat.le_of_ble_eq_true rfl⟩ rfl hl.1 rfl (Nat.le_of_ble_eq_true rfl) dX6_rising_61 (fun r9 S8 H locs hs hM => ?_)
      refine lv_ixor hx hb dX6_rising_64 ?_
      refine lv_istore (lv' := [(4, .int (r6 ^^^ r9)), (0, .ref h), (1, .int a1), (2, .int a2), (3, .int v1)]) hx hb dX6_rising_65 hl (by decide) rfl (fun ls hl => ?_)
      refine lv_iload_n hx hb dX6_rising_67 rfl (lv_at hl 4 rfl) ?_
      refine lv_iconst (v := 4) hx hb dX6_rising_68 (by decide) ?_
      refine lv_icmp_eq (tgt := 78) hx hb dX6_rising_69 (by decide) (fun c11 => ?_) (fun c11 => ?_)
      · replace hs := ifp c11 hs
        refine lv_iload hx hb dX6_rising_78 (lv_at hl 0 rfl) ?_
        refine lv_ineg hx hb dX6_rising_80 ?_
        refine lv_goto (tgt := 98) hx hb dX6_rising_81 (by decide) ?_
        exact m_reti X hK hM hs dX6_rising_98
      · replace hs := ifn c11 hs
        refine lv_iload_n hx hb dX6_rising_72 rfl (lv_at hl 4 rfl) ?_
        refine lv_bipush (v := 6) hx hb dX6_rising_73 (by decide) ?_
        refine lv_icmp_ne (tgt := 84) hx hb dX6_rising_75 (by decide) (fun c10 => ?_) (fun c10 => ?_)
        · replace hs := ifn c10 hs
          refine lv_iload_n hx hb dX6_rising_84 rfl (lv_at hl 4 rfl) ?_
          refine lv_iconst (v := 5) hx hb dX6_rising_85 (by decide) ?_
          refine lv_icmp_ne (tgt := 96) hx hb dX6_rising_86 (by decide) (fun c9 => ?_) (fun c9 => ?_)
          · replace hs := ifn c9 hs
            refine lv_iload hx hb dX6_rising_96 (lv_at hl 0 rfl) ?_
            exact m_reti X hK hM hs dX6_rising_98
          · replace hs := ifp c9 hs
            refine lv_iload hx hb dX6_rising_89 (lv_at hl 0 rfl) ?_
            refine lv_iconst (v := 5) hx hb dX6_rising_91 (by decide) ?_
            refine lv_ixor hx hb dX6_rising_92 ?_
            refine lv_goto (tgt := 98) hx hb dX6_rising_93 (by decide) ?_
            exact m_reti X hK hM hs dX6_rising_98
        · replace hs := ifp c10 hs
          refine lv_iload hx hb dX6_rising_78 (lv_at hl 0 rfl) ?_
          refine lv_ineg hx hb dX6_rising_80 ?_
          refine lv_goto (tgt := 98) hx hb dX6_rising_81 (by decide) ?_
          exact m_reti X hK hM hs dX6_rising_98
    refine lv_icmp_ne (tgt := 35) hx hb dX6_rising_26 (by decide) (fun c13 => ?_) (fun c13 => ?_)
    · replace hs := ifn c13 hs
      exact Ek35_3 _ _ _ _ hs hM hl
    · replace hs := ifp c13 hs
      refine lv_aload_n hx hb dX6_rising_29 rfl (lv_at hl 0 rfl) ?_
      refine lv_bipush (v := 60) hx hb dX6_rising_30 (by decide) ?_
      refine m_callv (rest := []) (av := fun ad => [.int 60]) X hK hA hM (met_body l 60 _ _ hs) iX6_body q2003 ⟨Nat.le_of_ble_eq_true rfl, Nat.le_of_ble_eq_true rfl⟩ rfl hl.1 rfl (Nat.le_of_ble_eq_true rfl) dX6_rising_32 (fun S13 H locs hs hM => ?_)
      exact Ek35_3 _ _ _ _ hs hM hl
  obtain ⟨k24_15, hk24_15, hs⟩ := jn_ex hs
  have Ek24_15 : ∀ (S15 : MS) (H : Heap) (locs : List Loc) (ls : Array Slot), k24_15 S15 → mI D dT A s.heap h ad S15 H locs → lv_has ls 5 [(0, .ref h), (1, .int a1), (2, .int a2), (3, .int v1)] → W p l e (mRm 3 71) s m args below meth c H locs 0 0 (MQ below (mQi D dT h ad K A) args s 0 0 A) (F0 m 24 ls []) := by
    intro S15 H locs ls hs hM hl
    rw [hk24_15] at hs
    refine lv_iload_n hx hb dX6_rising_24 rfl (lv_at hl 3 rfl) ?_
    refine lv_iconst (v := 5) hx hb dX6_rising_25 (by decide) ?_
    obtain ⟨k35_16, hk35_16, hs⟩ := jn_ex hs
    have Ek35_16 : ∀ (S16 : MS) (H : Heap) (locs : List Loc) (ls : Array Slot), k35_16 S16 → mI D dT A s.heap h ad S16 H locs → lv_has ls 5 [(0, .ref h), (1, .int a1), (2, .int a2), (3, .int v1)] → W p l e (mRm 3 71) s m args below meth c H locs 0 0 (MQ below (mQi D dT h ad K A) args s 0 0 A) (F0 m 35 ls []) := by
      intro S16 H locs ls hs hM hl
      rw [hk35_16] at hs
      refine lv_aload_n hx hb dX6_rising_35 rfl (lv_at hl 0 rfl) ?_
      refine lv_bipush (v := 12) hx hb dX6_rising_36 (by decide) ?_
      refine m_callv (rest := []) (av := fun ad => [.int 12]) X hK hA hM (met_body l 12 _ _ hs) iX6_body q2003 ⟨Nat.le_of_ble_eq_true rfl, Nat.le_of_ble_eq_true rfl⟩ rfl hl.1 rfl (Nat.le_of_ble_eq_true rfl) dX6_rising_38 (fun S17 H locs hs hM => ?_)
      refine lv_aload_n hx hb dX6_rising_41 rfl (lv_at hl 0 rfl) ?_
      refine lv_iload_n hx hb dX6_rising_42 rfl (lv_at hl 1 rfl) ?_
      refine lv_iload_n hx hb dX6_rising_43 rfl (lv_at hl 2 rfl) ?_
      refine m_calli (rest := []) (av := fun ad => [.int a1, .int a2]) X hK hA hM (met_falling l a1 a2 _ _ hs) iX6_falling q2007 ⟨Nat.le_of_ble_eq_true rfl, Nat.le_of_ble_eq_true rfl⟩ rfl hl.1 rfl (Nat.le_of_ble_eq_true rfl) dX6_rising_44 (fun r19 S18 H locs hs hM => ?_)
      refine lv_istore (lv' := [(4, .int r19), (0, .ref h), (1, .int a1), (2, .int a2), (3, .int v1)]) hx hb dX6_rising_47 hl (by decide) rfl (fun ls hl => ?_)
      refine lv_iload hx hb dX6_rising_49 (lv_at hl 0 rfl) ?_
      refine lv_aload_n hx hb dX6_rising_51 rfl (lv_at hl 1 rfl) ?_
      refine lv_iload_n hx hb dX6_rising_52 rfl (lv_at hl 2 rfl) ?_
      refine lv_iload_n hx hb dX6_rising_53 rfl (lv_at hl 3 rfl) ?_
      refine lv_aload_n hx hb dX6_rising_54 rfl (lv_at hl 1 rfl) ?_
      refine m_geti (v := .ref (ad 12)) X hK hM 12 q1488 rfl rfl rfl dX6_rising_55 ?_
      refine lv_iload_n hx hb dX6_rising_58 rfl (lv_at hl 2 rfl) ?_
      obtain ⟨v20, ev20, hs⟩ := hs
      refine m_iald X hK hM rfl ev20 dX6_rising_59 ?_
      refine lv_isub hx hb dX6_rising_60 ?_
      refine m_calli (rest := [.int r19]) (av := fun ad => [.int a1, .int (a2 - v20)]) X hK hA hM (met_hopping l a1 (a2 - v20) _ _ hs) iX6_hopping q1999 ⟨Nat.le_of_ble_eq_true rfl, Nat.le_of_ble_eq_true rfl⟩ rfl hl.1 rfl (Nat.le_of_ble_eq_true rfl) dX6_rising_61 (fun r22 S21 H locs hs hM => ?_)
      refine lv_ixor hx hb dX6_rising_64 ?_
      refine lv_istore (lv' := [(4, .int (r19 ^^^ r22)), (0, .ref h), (1, .int a1), (2, .int a2), (3, .int v1)]) hx hb dX6_rising_65 hl (by decide) rfl (fun ls hl => ?_)
      refine lv_iload_n hx hb dX6_rising_67 rfl (lv_at hl 4 rfl) ?_
      refine lv_iconst (v := 4) hx hb dX6_rising_68 (by decide) ?_
      refine lv_icmp_eq (tgt := 78) hx hb dX6_rising_69 (by decide) (fun c24 => ?_) (fun c24 => ?_)
      · replace hs := ifp c24 hs
        refine lv_iload hx hb dX6_rising_78 (lv_at hl 0 rfl) ?_
        refine lv_ineg hx hb dX6_rising_80 ?_
        refine lv_goto (tgt := 98) hx hb dX6_rising_81 (by decide) ?_
        exact m_reti X hK hM hs dX6_rising_98
      · replace hs := ifn c24 hs
        refine lv_iload_n hx hb dX6_rising_72 rfl (lv_at hl 4 rfl) ?_
        refine lv_bipush (v := 6) hx hb dX6_rising_73 (by decide) ?_
        refine lv_icmp_ne (tgt := 84) hx hb dX6_rising_75 (by decide) (fun c23 => ?_) (fun c23 => ?_)
        · replace hs := ifn c23 hs
          refine lv_iload_n hx hb dX6_rising_84 rfl (lv_at hl 4 rfl) ?_
          refine lv_iconst (v := 5) hx hb dX6_rising_85 (by decide) ?_
          refine lv_icmp_ne (tgt := 96) hx hb dX6_rising_86 (by decide) (fun c22 => ?_) (fun c22 => ?_)
          · replace hs := ifn c22 hs
            refine lv_iload hx hb dX6_rising_96 (lv_at hl 0 rfl) ?_
            exact m_reti X hK hM hs dX6_rising_98
          · replace hs := ifp c22 hs
            refine lv_iload hx hb dX6_rising_89 (lv_at hl 0 rfl) ?_
            refine lv_iconst (v := 5) hx hb dX6_rising_91 (by decide) ?_
            refine lv_ixor hx hb dX6_rising_92 ?_
            refine lv_goto (tgt := 98) hx hb dX6_rising_93 (by decide) ?_
            exact m_reti X hK hM hs dX6_rising_98
        · replace hs := ifp c23 hs
          refine lv_iload hx hb dX6_rising_78 (lv_at hl 0 rfl) ?_
          refine lv_ineg hx hb dX6_rising_80 ?_
          refine lv_goto (tgt := 98) hx hb dX6_rising_81 (by decide) ?_
          exact m_reti X hK hM hs dX6_rising_98
    refine lv_icmp_ne (tgt := 35) hx hb dX6_rising_26 (by decide) (fun c26 => ?_) (fun c26 => ?_)
    · replace hs := ifn c26 hs
      exact Ek35_16 _ _ _ _ hs hM hl
    · replace hs := ifp c26 hs
      refine lv_aload_n hx hb dX6_rising_29 rfl (lv_at hl 0 rfl) ?_
      refine lv_bipush (v := 60) hx hb dX6_rising_30 (by decide) ?_
      refine m_callv (rest := []) (av := fun ad => [.int 60]) X hK hA hM (met_body l 60 _ _ hs) iX6_body q2003 ⟨Nat.le_of_ble_eq_true rfl, Nat.le_of_ble_eq_true rfl⟩ rfl hl.1 rfl (Nat.le_of_ble_eq_true rfl) dX6_rising_32 (fun S26 H locs hs hM => ?_)
      exact Ek35_16 _ _ _ _ hs hM hl
  refine lv_icmp_eq (tgt := 18) hx hb dX6_rising_9 (by decide) (fun c28 => ?_) (fun c28 => ?_)
  · replace hs := ifp c28 hs
    exact Ek18_1 _ _ _ hs hM (lv_sub hl [1, 2, 3, 0] rfl)
  · replace hs := ifn c28 hs
    refine lv_iload_n hx hb dX6_rising_12 rfl (lv_at hl 0 rfl) ?_
    refine lv_bipush (v := 6) hx hb dX6_rising_13 (by decide) ?_
    refine lv_icmp_ne (tgt := 24) hx hb dX6_rising_15 (by decide) (fun c27 => ?_) (fun c27 => ?_)
    · replace hs := ifn c27 hs
      exact Ek24_15 _ _ _ _ hs hM (lv_sub hl [1, 2, 3, 0] rfl)
    · replace hs := ifp c27 hs
      exact Ek18_1 _ _ _ hs hM (lv_sub hl [1, 2, 3, 0] rfl)
def m_act (a1 : Int32) (a2 : Int32) (a3 : Int32) (S : MS) (K : Int32 → MS → Prop) : Prop := m_isChild a1 (mset S 57 0) (fun r2 S1 => (if r2 = 0 then K 0 S1 else (if a2 < 0 then K 0 S1 else (if a2 ≤ 2 then (if a2 = 0 then m_hopping a1 a3 S1 (fun r9 S8 => K r9 S8) else (if a2 = 1 then m_falling a1 a3 S1 (fun r6 S5 => K r6 S5) else m_rising a1 a3 S1 (fun r4 S3 => K r4 S3))) else K 0 S1))))
theorem iX6_act : mInf yX6_act cX6_act 4 (some .int) 3 := ⟨q1996, q1997, q1998, by decide +kernel⟩
set_option maxHeartbeats 4000000 in
theorem met_act (l : Launch) (a1 : Int32) (a2 : Int32) (a3 : Int32) (S : MS) (K : Int32 → MS → Prop) (hs : m_act a1 a2 a3 S K) : mMeti l yX6_act cX6_act 4 4 95 S (fun ad => [.int a1, .int a2, .int a3]) K := by
  intro D dT h ad sz
  refine mEnter (Qc := mQi D dT h ad K) (by decide) rfl (by rfl) ?_
  intro p e s m args below meth c A ls X hK hA hM hl
  have hx := X.1
  have hb := X.2.1
  have hts := X.2.2.2.2.1
  have hown := X.2.2.2.2.2.1
  have hl : lv_has ls 4 [(0, .ref h), (1, .int a1), (2, .int a2), (3, .int a3)] := hl
  unfold m_act at hs
  refine lv_aload_n hx hb dX6_act_0 rfl (lv_at hl 0 rfl) ?_
  refine lv_iconst (v := 0) hx hb dX6_act_1 (by decide) ?_
  refine m_puti X hK hM 57 q1533 rfl rfl rfl rfl rfl rfl dX6_act_2 (fun H locs hM => ?_)
  refine lv_aload_n hx hb dX6_act_5 rfl (lv_at hl 0 rfl) ?_
  refine lv_iload_n hx hb dX6_act_6 rfl (lv_at hl 1 rfl) ?_
  refine m_callz (rest := []) (av := fun ad => [.int a1]) X hK hA hM (met_isChild l a1 _ _ hs) iX6_isChild q1682 ⟨Nat.le_of_ble_eq_true rfl, Nat.le_of_ble_eq_true rfl⟩ rfl hl.1 rfl (Nat.le_of_ble_eq_true rfl) dX6_act_7 (fun r2 S1 H locs br2 hs hM => ?_)
  refine lv_if_eq (tgt := 22) hx hb dX6_act_10 (by decide) (fun c12 => ?_) (fun c12 => ?_)
  · replace hs := ifp c12 hs
    refine lv_iconst (v := 0) hx hb dX6_act_22 (by decide) ?_
    exact m_reti X hK hM hs dX6_act_23
  · replace hs := ifn c12 hs
    refine lv_iload_n hx hb dX6_act_13 rfl (lv_at hl 2 rfl) ?_
    refine lv_if_lt (tgt := 22) hx hb dX6_act_14 (by decide) (fun c11 => ?_) (fun c11 => ?_)
    · replace hs := ifp c11 hs
      refine lv_iconst (v := 0) hx hb dX6_act_22 (by decide) ?_
      exact m_reti X hK hM hs dX6_act_23
    · replace hs := ifn c11 hs
      refine lv_iload_n hx hb dX6_act_17 rfl (lv_at hl 2 rfl) ?_
      refine lv_iconst (v := 2) hx hb dX6_act_18 (by decide) ?_
      refine lv_icmp_le (tgt := 24) hx hb dX6_act_19 (by decide) (fun c10 => ?_) (fun c10 => ?_)
      · replace hs := ifp c10 hs
        refine lv_iload_n hx hb dX6_act_24 rfl (lv_at hl 2 rfl) ?_
        refine lv_if_ne (tgt := 37) hx hb dX6_act_25 (by decide) (fun c9 => ?_) (fun c9 => ?_)
        · replace hs := ifn c9 hs
          refine lv_iload_n hx hb dX6_act_37 rfl (lv_at hl 2 rfl) ?_
          refine lv_iconst (v := 1) hx hb dX6_act_38 (by decide) ?_
          refine lv_icmp_ne (tgt := 51) hx hb dX6_act_39 (by decide) (fun c6 => ?_) (fun c6 => ?_)
          · replace hs := ifn c6 hs
            refine lv_aload_n hx hb dX6_act_51 rfl (lv_at hl 0 rfl) ?_
            refine lv_iload_n hx hb dX6_act_52 rfl (lv_at hl 1 rfl) ?_
            refine lv_iload_n hx hb dX6_act_53 rfl (lv_at hl 3 rfl) ?_
            refine m_calli (rest := []) (av := fun ad => [.int a1, .int a3]) X hK hA hM (met_rising l a1 a3 _ _ hs) iX6_rising q2011 ⟨Nat.le_of_ble_eq_true rfl, Nat.le_of_ble_eq_true rfl⟩ rfl hl.1 rfl (Nat.le_of_ble_eq_true rfl) dX6_act_54 (fun r4 S3 H locs hs hM => ?_)
            exact m_reti X hK hM hs dX6_act_57
          · replace hs := ifp c6 hs
            refine lv_aload_n hx hb dX6_act_42 rfl (lv_at hl 0 rfl) ?_
            refine lv_iload_n hx hb dX6_act_43 rfl (lv_at hl 1 rfl) ?_
            refine lv_iload_n hx hb dX6_act_44 rfl (lv_at hl 3 rfl) ?_
            refine m_calli (rest := []) (av := fun ad => [.int a1, .int a3]) X hK hA hM (met_falling l a1 a3 _ _ hs) iX6_falling q2007 ⟨Nat.le_of_ble_eq_true rfl, Nat.le_of_ble_eq_true rfl⟩ rfl hl.1 rfl (Nat.le_of_ble_eq_true rfl) dX6_act_45 (fun r6 S5 H locs hs hM => ?_)
            refine lv_goto (tgt := 57) hx hb dX6_act_48 (by decide) ?_
            exact m_reti X hK hM hs dX6_act_57
        · replace hs := ifp c9 hs
          refine lv_aload_n hx hb dX6_act_28 rfl (lv_at hl 0 rfl) ?_
          refine lv_iload_n hx hb dX6_act_29 rfl (lv_at hl 1 rfl) ?_
          refine lv_iload_n hx hb dX6_act_30 rfl (lv_at hl 3 rfl) ?_
          refine m_calli (rest := []) (av := fun ad => [.int a1, .int a3]) X hK hA hM (met_hopping l a1 a3 _ _ hs) iX6_hopping q1999 ⟨Nat.le_of_ble_eq_true rfl, Nat.le_of_ble_eq_true rfl⟩ rfl hl.1 rfl (Nat.le_of_ble_eq_true rfl) dX6_act_31 (fun r9 S8 H locs hs hM => ?_)
          refine lv_goto (tgt := 57) hx hb dX6_act_34 (by decide) ?_
          exact m_reti X hK hM hs dX6_act_57
      · replace hs := ifn c10 hs
        refine lv_iconst (v := 0) hx hb dX6_act_22 (by decide) ?_
        exact m_reti X hK hM hs dX6_act_23
def m_trace (a1 : Int32) (S : MS) (K : Int32 → MS → Prop) : Prop := (if a1 < 0 then K (-1) S else (if 20 ≤ a1 then K (-1) S else (if (S.1 57) ≤ a1 then K (-1) S else obd (mald S 56 a1) (fun v1 => K v1 S))))
theorem iX6_trace : mInf yX6_trace cX6_trace 2 (some .int) 1 := ⟨q2016, q2017, q2018, by decide +kernel⟩
set_option maxHeartbeats 4000000 in
theorem met_trace (l : Launch) (a1 : Int32) (S : MS) (K : Int32 → MS → Prop) (hs : m_trace a1 S K) : mMeti l yX6_trace cX6_trace 2 0 0 S (fun ad => [.int a1]) K := by
  intro D dT h ad sz
  refine mEnter (Qc := mQi D dT h ad K) (by decide) rfl (by rfl) ?_
  intro p e s m args below meth c A ls X hK hA hM hl
  have hx := X.1
  have hb := X.2.1
  have hts := X.2.2.2.2.1
  have hown := X.2.2.2.2.2.1
  have hl : lv_has ls 2 [(0, .ref h), (1, .int a1)] := hl
  unfold m_trace at hs
  refine lv_iload_n hx hb dX6_trace_0 rfl (lv_at hl 1 rfl) ?_
  refine lv_if_lt (tgt := 27) hx hb dX6_trace_1 (by decide) (fun c3 => ?_) (fun c3 => ?_)
  · replace hs := ifp c3 hs
    refine lv_iconst (v := (-1)) hx hb dX6_trace_27 (by decide) ?_
    exact m_reti X hK hM hs dX6_trace_28
  · replace hs := ifn c3 hs
    refine lv_iload_n hx hb dX6_trace_4 rfl (lv_at hl 1 rfl) ?_
    refine lv_bipush (v := 20) hx hb dX6_trace_5 (by decide) ?_
    refine lv_icmp_ge (tgt := 27) hx hb dX6_trace_7 (by decide) (fun c2 => ?_) (fun c2 => ?_)
    · replace hs := ifp c2 hs
      refine lv_iconst (v := (-1)) hx hb dX6_trace_27 (by decide) ?_
      exact m_reti X hK hM hs dX6_trace_28
    · replace hs := ifn c2 hs
      refine lv_iload_n hx hb dX6_trace_10 rfl (lv_at hl 1 rfl) ?_
      refine lv_aload_n hx hb dX6_trace_11 rfl (lv_at hl 0 rfl) ?_
      refine m_geti (v := .int (S.1 57)) X hK hM 57 q1533 rfl rfl rfl dX6_trace_12 ?_
      refine lv_icmp_ge (tgt := 27) hx hb dX6_trace_15 (by decide) (fun c1 => ?_) (fun c1 => ?_)
      · replace hs := ifp c1 hs
        refine lv_iconst (v := (-1)) hx hb dX6_trace_27 (by decide) ?_
        exact m_reti X hK hM hs dX6_trace_28
      · replace hs := ifn c1 hs
        refine lv_aload_n hx hb dX6_trace_18 rfl (lv_at hl 0 rfl) ?_
        refine m_geti (v := .ref (ad 56)) X hK hM 56 q1532 rfl rfl rfl dX6_trace_19 ?_
        refine lv_iload_n hx hb dX6_trace_22 rfl (lv_at hl 1 rfl) ?_
        obtain ⟨v1, ev1, hs⟩ := hs
        refine m_iald X hK hM rfl ev1 dX6_trace_23 ?_
        refine lv_goto (tgt := 28) hx hb dX6_trace_24 (by decide) ?_
        exact m_reti X hK hM hs dX6_trace_28
def m_image (S : MS) (K : Int32 → MS → Prop) : Prop := m_all 34 0 (mset S 58 1) (fun S1 => K (S1.1 0) S1)
theorem iX6_image : mInf yX6_image cX6_image 1 (some .int) 0 := ⟨q2020, q2021, q2022, by decide +kernel⟩
set_option maxHeartbeats 4000000 in
theorem met_image (l : Launch)  (S : MS) (K : Int32 → MS → Prop) (hs : m_image  S K) : mMeti l yX6_image cX6_image 1 2 49 S (fun ad => []) K := by
  intro D dT h ad sz
  refine mEnter (Qc := mQi D dT h ad K) (by decide) rfl (by rfl) ?_
  intro p e s m args below meth c A ls X hK hA hM hl
  have hx := X.1
  have hb := X.2.1
  have hts := X.2.2.2.2.1
  have hown := X.2.2.2.2.2.1
  have hl : lv_has ls 1 [(0, .ref h)] := hl
  unfold m_image at hs
  refine lv_aload_n hx hb dX6_image_0 rfl (lv_at hl 0 rfl) ?_
  refine lv_iconst (v := 1) hx hb dX6_image_1 (by decide) ?_
  refine m_puti X hK hM 58 q1534 rfl rfl rfl rfl rfl rfl dX6_image_2 (fun H locs hM => ?_)
  refine lv_aload_n hx hb dX6_image_5 rfl (lv_at hl 0 rfl) ?_
  refine lv_aload_n hx hb dX6_image_6 rfl (lv_at hl 0 rfl) ?_
  refine m_geti (v := .ref (ad 34)) X hK hM 34 q1510 rfl rfl rfl dX6_image_7 ?_
  refine lv_iconst (v := 0) hx hb dX6_image_10 (by decide) ?_
  refine m_callv (rest := []) (av := fun ad => [.ref (ad 34), .int 0]) X hK hA hM (met_all l 34 0 rfl _ _ hs) iX6_all q1786 ⟨Nat.le_of_ble_eq_true rfl, Nat.le_of_ble_eq_true rfl⟩ rfl hl.1 rfl (Nat.le_of_ble_eq_true rfl) dX6_image_11 (fun S1 H locs hs hM => ?_)
  refine lv_aload_n hx hb dX6_image_14 rfl (lv_at hl 0 rfl) ?_
  refine m_geti (v := .int (S1.1 0)) X hK hM 0 q1476 rfl rfl rfl dX6_image_15 ?_
  exact m_reti X hK hM hs dX6_image_18
def m_restore_l25 (K : Int32 → MS → Prop) : Nat → Int32 → MS → Prop
  | 0, _, _ => False
  | n25_3 + 1, x2, S3 => (if 8 ≤ x2 then K (S3.1 0) S3 else obd (mald S3 19 x2) (fun v5 => jn (fun (S6 : MS) => m_restore_l25 K n25_3 (x2 + 1) S6) (fun k61_6 => (if v5 = 2 then obd (mald S3 22 x2) (fun v7 => (if v7 < (S3.1 0) then k61_6 S3 else obd (mast S3 19 x2 0) (fun S8 => k61_6 S8))) else k61_6 S3))))
theorem m_restore_l25_s (K : Int32 → MS → Prop) (n25_3 : Nat) (x2 : Int32) (S3 : MS) : m_restore_l25 K (n25_3 + 1) x2 S3 = ((if 8 ≤ x2 then K (S3.1 0) S3 else obd (mald S3 19 x2) (fun v5 => jn (fun (S6 : MS) => m_restore_l25 K n25_3 (x2 + 1) S6) (fun k61_6 => (if v5 = 2 then obd (mald S3 22 x2) (fun v7 => (if v7 < (S3.1 0) then k61_6 S3 else obd (mast S3 19 x2 0) (fun S8 => k61_6 S8))) else k61_6 S3))))) := rfl
def m_restore (S : MS) (K : Int32 → MS → Prop) : Prop := (if (S.1 58) = 0 then m_no (-6) S (fun r13 S12 => K r13 S12) else m_all 34 1 S (fun S1 => m_restore_l25 K NF 0 S1))
theorem iX6_restore : mInf yX6_restore cX6_restore 2 (some .int) 0 := ⟨q2024, q2025, q2026, by decide +kernel⟩
set_option maxHeartbeats 4000000 in
theorem met_restore (l : Launch)  (S : MS) (K : Int32 → MS → Prop) (hs : m_restore  S K) : mMeti l yX6_restore cX6_restore 2 2 49 S (fun ad => []) K := by
  intro D dT h ad sz
  refine mEnter (Qc := mQi D dT h ad K) (by decide) rfl (by rfl) ?_
  intro p e s m args below meth c A ls X hK hA hM hl
  have hx := X.1
  have hb := X.2.1
  have hts := X.2.2.2.2.1
  have hown := X.2.2.2.2.2.1
  have hl : lv_has ls 2 [(0, .ref h)] := hl
  unfold m_restore at hs
  refine lv_aload_n hx hb dX6_restore_0 rfl (lv_at hl 0 rfl) ?_
  refine m_geti (v := .int (S.1 58)) X hK hM 58 q1534 rfl rfl rfl dX6_restore_1 ?_
  refine lv_if_ne (tgt := 14) hx hb dX6_restore_4 (by decide) (fun c13 => ?_) (fun c13 => ?_)
  · replace hs := ifn c13 hs
    refine lv_aload_n hx hb dX6_restore_14 rfl (lv_at hl 0 rfl) ?_
    refine lv_aload_n hx hb dX6_restore_15 rfl (lv_at hl 0 rfl) ?_
    refine m_geti (v := .ref (ad 34)) X hK hM 34 q1510 rfl rfl rfl dX6_restore_16 ?_
    refine lv_iconst (v := 1) hx hb dX6_restore_19 (by decide) ?_
    refine m_callv (rest := []) (av := fun ad => [.ref (ad 34), .int 1]) X hK hA hM (met_all l 34 1 rfl _ _ hs) iX6_all q1786 ⟨Nat.le_of_ble_eq_true rfl, Nat.le_of_ble_eq_true rfl⟩ rfl hl.1 rfl (Nat.le_of_ble_eq_true rfl) dX6_restore_20 (fun S1 H locs hs hM => ?_)
    refine lv_iconst (v := 0) hx hb dX6_restore_23 (by decide) ?_
    refine lv_istore_n (lv' := [(1, .int 0), (0, .ref h)]) hx hb dX6_restore_24 rfl hl (by decide) rfl (fun ls hl => ?_)
    have Lm_restore_l25 : ∀ (n25_3 : Nat) (x2 : Int32) (S3 : MS) (H : Heap) (locs : List Loc) (ls : Array Slot), m_restore_l25 K n25_3 x2 S3 → mI D dT A s.heap h ad S3 H locs → lv_has ls 2 [(0, .ref h), (1, .int x2)] → W p l e (mRm 2 49) s m args below meth c H locs 0 0 (MQ below (mQi D dT h ad K A) args s 0 0 A) (F0 m 25 ls []) := by
      intro n25_3
      induction n25_3 with
      | zero =>
        intro x2 S3 H locs ls hs
        exact False.elim hs
      | succ n25_3 ihm_restore_l25 =>
        intro x2 S3 H locs ls hs hM hl
        rw [m_restore_l25_s] at hs
        refine lv_iload_n hx hb dX6_restore_25 rfl (lv_at hl 1 rfl) ?_
        refine lv_bipush (v := 8) hx hb dX6_restore_26 (by decide) ?_
        refine lv_icmp_ge (tgt := 67) hx hb dX6_restore_28 (by decide) (fun c10 => ?_) (fun c10 => ?_)
        · replace hs := ifp c10 hs
          refine lv_aload_n hx hb dX6_restore_67 rfl (lv_at hl 0 rfl) ?_
          refine m_geti (v := .int (S3.1 0)) X hK hM 0 q1476 rfl rfl rfl dX6_restore_68 ?_
          exact m_reti X hK hM hs dX6_restore_71
        · replace hs := ifn c10 hs
          refine lv_aload_n hx hb dX6_restore_31 rfl (lv_at hl 0 rfl) ?_
          refine m_geti (v := .ref (ad 19)) X hK hM 19 q1495 rfl rfl rfl dX6_restore_32 ?_
          refine lv_iload_n hx hb dX6_restore_35 rfl (lv_at hl 1 rfl) ?_
          obtain ⟨v5, ev5, hs⟩ := hs
          refine m_iald X hK hM rfl ev5 dX6_restore_36 ?_
          refine lv_iconst (v := 2) hx hb dX6_restore_37 (by decide) ?_
          obtain ⟨k61_6, hk61_6, hs⟩ := jn_ex hs
          have Ek61_6 : ∀ (S6 : MS) (H : Heap) (locs : List Loc) (ls : Array Slot), k61_6 S6 → mI D dT A s.heap h ad S6 H locs → lv_has ls 2 [(0, .ref h), (1, .int x2)] → W p l e (mRm 2 49) s m args below meth c H locs 0 0 (MQ below (mQi D dT h ad K A) args s 0 0 A) (F0 m 61 ls []) := by
            intro S6 H locs ls hs hM hl
            rw [hk61_6] at hs
            refine lv_iinc (v := (x2 + 1)) (lv' := [(1, .int (x2 + 1)), (0, .ref h)]) hx hb dX6_restore_61 hl (k := 1) rfl (congrArg (fun z => x2 + z) (show Int32.ofInt (1) = 1 by decide)) (by decide) rfl (fun ls hl => ?_)
            refine lv_goto (tgt := 25) hx hb dX6_restore_64 (by decide) ?_
            exact ihm_restore_l25 _ _ _ _ _ hs hM (lv_sub hl [1, 0] rfl)
          refine lv_icmp_ne (tgt := 61) hx hb dX6_restore_38 (by decide) (fun c9 => ?_) (fun c9 => ?_)
          · replace hs := ifn c9 hs
            exact Ek61_6 _ _ _ _ hs hM hl
          · replace hs := ifp c9 hs
            refine lv_aload_n hx hb dX6_restore_41 rfl (lv_at hl 0 rfl) ?_
            refine m_geti (v := .ref (ad 22)) X hK hM 22 q1498 rfl rfl rfl dX6_restore_42 ?_
            refine lv_iload_n hx hb dX6_restore_45 rfl (lv_at hl 1 rfl) ?_
            obtain ⟨v7, ev7, hs⟩ := hs
            refine m_iald X hK hM rfl ev7 dX6_restore_46 ?_
            refine lv_aload_n hx hb dX6_restore_47 rfl (lv_at hl 0 rfl) ?_
            refine m_geti (v := .int (S3.1 0)) X hK hM 0 q1476 rfl rfl rfl dX6_restore_48 ?_
            refine lv_icmp_lt (tgt := 61) hx hb dX6_restore_51 (by decide) (fun c8 => ?_) (fun c8 => ?_)
            · replace hs := ifp c8 hs
              exact Ek61_6 _ _ _ _ hs hM hl
            · replace hs := ifn c8 hs
              refine lv_aload_n hx hb dX6_restore_54 rfl (lv_at hl 0 rfl) ?_
              refine m_geti (v := .ref (ad 19)) X hK hM 19 q1495 rfl rfl rfl dX6_restore_55 ?_
              refine lv_iload_n hx hb dX6_restore_58 rfl (lv_at hl 1 rfl) ?_
              refine lv_iconst (v := 0) hx hb dX6_restore_59 (by decide) ?_
              obtain ⟨S8, eS8, hs⟩ := hs
              refine m_iast X hK hM rfl eS8 dX6_restore_60 (fun H locs hM => ?_)
              exact Ek61_6 _ _ _ _ hs hM hl
    exact Lm_restore_l25 NF _ _ _ _ _ hs hM (lv_sub hl [1, 0] rfl)
  · replace hs := ifp c13 hs
    refine lv_aload_n hx hb dX6_restore_7 rfl (lv_at hl 0 rfl) ?_
    refine lv_bipush (v := (-6)) hx hb dX6_restore_8 (by decide) ?_
    refine m_calli (rest := []) (av := fun ad => [.int (-6)]) X hK hA hM (met_no l (-6) _ _ hs) iX6_no q1662 ⟨Nat.le_of_ble_eq_true rfl, Nat.le_of_ble_eq_true rfl⟩ rfl hl.1 rfl (Nat.le_of_ble_eq_true rfl) dX6_restore_10 (fun r13 S12 H locs hs hM => ?_)
    exact m_reti X hK hM hs dX6_restore_13
def m_status (a1 : Int32) (S : MS) (K : Int32 → MS → Prop) : Prop := jn (jn ((if a1 = 0 then K (S.1 0) S else if a1 = 1 then K (S.1 1) S else if a1 = 2 then K (-1) S else if a1 = 3 then K (-1) S else if a1 = 4 then K (-1) S else if a1 = 5 then K (-1) S else if a1 = 6 then K (S.1 6) S else if a1 = 7 then K (S.1 7) S else if a1 = 8 then K (S.1 8) S else if a1 = 9 then K (S.1 57) S else K (-1) S)) (fun k40_0 => (if a1 < 2 then k40_0 else (if 5 < a1 then k40_0 else m_told (a1 - 2) S (fun r3 S2 => K r3 S2))))) (fun k22_0 => (if a1 < 11 then k22_0 else (if 17 < a1 then k22_0 else obd (mald S 10 (a1 - 10)) (fun v6 => K v6 S))))
theorem iX6_status : mInf yX6_status cX6_status 2 (some .int) 1 := ⟨q2028, q2029, q2030, by decide +kernel⟩
set_option maxHeartbeats 4000000 in
theorem met_status (l : Launch) (a1 : Int32) (S : MS) (K : Int32 → MS → Prop) (hs : m_status a1 S K) : mMeti l yX6_status cX6_status 2 1 21 S (fun ad => [.int a1]) K := by
  intro D dT h ad sz
  refine mEnter (Qc := mQi D dT h ad K) (by decide) rfl (by rfl) ?_
  intro p e s m args below meth c A ls X hK hA hM hl
  have hx := X.1
  have hb := X.2.1
  have hts := X.2.2.2.2.1
  have hown := X.2.2.2.2.2.1
  have hl : lv_has ls 2 [(0, .ref h), (1, .int a1)] := hl
  unfold m_status at hs
  refine lv_iload_n hx hb dX6_status_0 rfl (lv_at hl 1 rfl) ?_
  refine lv_bipush (v := 11) hx hb dX6_status_1 (by decide) ?_
  obtain ⟨k22_0, hk22_0, hs⟩ := jn_ex hs
  have Ek22_0 : ∀ (H : Heap) (locs : List Loc) (ls : Array Slot), k22_0 → mI D dT A s.heap h ad S H locs → lv_has ls 2 [(0, .ref h), (1, .int a1)] → W p l e (mRm 1 21) s m args below meth c H locs 0 0 (MQ below (mQi D dT h ad K A) args s 0 0 A) (F0 m 22 ls []) := by
    intro H locs ls hs hM hl
    rw [hk22_0] at hs
    refine lv_iload_n hx hb dX6_status_22 rfl (lv_at hl 1 rfl) ?_
    refine lv_iconst (v := 2) hx hb dX6_status_23 (by decide) ?_
    obtain ⟨k40_0, hk40_0, hs⟩ := jn_ex hs
    have Ek40_0 : ∀ (H : Heap) (locs : List Loc) (ls : Array Slot), k40_0 → mI D dT A s.heap h ad S H locs → lv_has ls 2 [(0, .ref h), (1, .int a1)] → W p l e (mRm 1 21) s m args below meth c H locs 0 0 (MQ below (mQi D dT h ad K A) args s 0 0 A) (F0 m 40 ls []) := by
      intro H locs ls hs hM hl
      rw [hk40_0] at hs
      refine lv_iload_n hx hb dX6_status_40 rfl (lv_at hl 1 rfl) ?_
      by_cases c0_0 : a1 = 0
      · replace hs := ifp c0_0 hs
        refine lv_tableIn (tgt := 96) hx hb dX6_status_41 (by rw [c0_0]; decide) (by rw [c0_0]; decide) (by rw [c0_0]; rfl) (by decide) ?_
        refine lv_aload_n hx hb dX6_status_96 rfl (lv_at hl 0 rfl) ?_
        refine m_geti (v := .int (S.1 0)) X hK hM 0 q1476 rfl rfl rfl dX6_status_97 ?_
        exact m_reti X hK hM hs dX6_status_100
      · replace hs := ifn c0_0 hs
        by_cases c0_1 : a1 = 1
        · replace hs := ifp c0_1 hs
          refine lv_tableIn (tgt := 101) hx hb dX6_status_41 (by rw [c0_1]; decide) (by rw [c0_1]; decide) (by rw [c0_1]; rfl) (by decide) ?_
          refine lv_aload_n hx hb dX6_status_101 rfl (lv_at hl 0 rfl) ?_
          refine m_geti (v := .int (S.1 1)) X hK hM 1 q1477 rfl rfl rfl dX6_status_102 ?_
          exact m_reti X hK hM hs dX6_status_105
        · replace hs := ifn c0_1 hs
          by_cases c0_2 : a1 = 2
          · replace hs := ifp c0_2 hs
            refine lv_tableIn (tgt := 126) hx hb dX6_status_41 (by rw [c0_2]; decide) (by rw [c0_2]; decide) (by rw [c0_2]; rfl) (by decide) ?_
            refine lv_iconst (v := (-1)) hx hb dX6_status_126 (by decide) ?_
            exact m_reti X hK hM hs dX6_status_127
          · replace hs := ifn c0_2 hs
            by_cases c0_3 : a1 = 3
            · replace hs := ifp c0_3 hs
              refine lv_tableIn (tgt := 126) hx hb dX6_status_41 (by rw [c0_3]; decide) (by rw [c0_3]; decide) (by rw [c0_3]; rfl) (by decide) ?_
              refine lv_iconst (v := (-1)) hx hb dX6_status_126 (by decide) ?_
              exact m_reti X hK hM hs dX6_status_127
            · replace hs := ifn c0_3 hs
              by_cases c0_4 : a1 = 4
              · replace hs := ifp c0_4 hs
                refine lv_tableIn (tgt := 126) hx hb dX6_status_41 (by rw [c0_4]; decide) (by rw [c0_4]; decide) (by rw [c0_4]; rfl) (by decide) ?_
                refine lv_iconst (v := (-1)) hx hb dX6_status_126 (by decide) ?_
                exact m_reti X hK hM hs dX6_status_127
              · replace hs := ifn c0_4 hs
                by_cases c0_5 : a1 = 5
                · replace hs := ifp c0_5 hs
                  refine lv_tableIn (tgt := 126) hx hb dX6_status_41 (by rw [c0_5]; decide) (by rw [c0_5]; decide) (by rw [c0_5]; rfl) (by decide) ?_
                  refine lv_iconst (v := (-1)) hx hb dX6_status_126 (by decide) ?_
                  exact m_reti X hK hM hs dX6_status_127
                · replace hs := ifn c0_5 hs
                  by_cases c0_6 : a1 = 6
                  · replace hs := ifp c0_6 hs
                    refine lv_tableIn (tgt := 106) hx hb dX6_status_41 (by rw [c0_6]; decide) (by rw [c0_6]; decide) (by rw [c0_6]; rfl) (by decide) ?_
                    refine lv_aload_n hx hb dX6_status_106 rfl (lv_at hl 0 rfl) ?_
                    refine m_geti (v := .int (S.1 6)) X hK hM 6 q1482 rfl rfl rfl dX6_status_107 ?_
                    exact m_reti X hK hM hs dX6_status_110
                  · replace hs := ifn c0_6 hs
                    by_cases c0_7 : a1 = 7
                    · replace hs := ifp c0_7 hs
                      refine lv_tableIn (tgt := 111) hx hb dX6_status_41 (by rw [c0_7]; decide) (by rw [c0_7]; decide) (by rw [c0_7]; rfl) (by decide) ?_
                      refine lv_aload_n hx hb dX6_status_111 rfl (lv_at hl 0 rfl) ?_
                      refine m_geti (v := .int (S.1 7)) X hK hM 7 q1483 rfl rfl rfl dX6_status_112 ?_
                      exact m_reti X hK hM hs dX6_status_115
                    · replace hs := ifn c0_7 hs
                      by_cases c0_8 : a1 = 8
                      · replace hs := ifp c0_8 hs
                        refine lv_tableIn (tgt := 116) hx hb dX6_status_41 (by rw [c0_8]; decide) (by rw [c0_8]; decide) (by rw [c0_8]; rfl) (by decide) ?_
                        refine lv_aload_n hx hb dX6_status_116 rfl (lv_at hl 0 rfl) ?_
                        refine m_geti (v := .int (S.1 8)) X hK hM 8 q1484 rfl rfl rfl dX6_status_117 ?_
                        exact m_reti X hK hM hs dX6_status_120
                      · replace hs := ifn c0_8 hs
                        by_cases c0_9 : a1 = 9
                        · replace hs := ifp c0_9 hs
                          refine lv_tableIn (tgt := 121) hx hb dX6_status_41 (by rw [c0_9]; decide) (by rw [c0_9]; decide) (by rw [c0_9]; rfl) (by decide) ?_
                          refine lv_aload_n hx hb dX6_status_121 rfl (lv_at hl 0 rfl) ?_
                          refine m_geti (v := .int (S.1 57)) X hK hM 57 q1533 rfl rfl rfl dX6_status_122 ?_
                          exact m_reti X hK hM hs dX6_status_125
                        · replace hs := ifn c0_9 hs
                          refine lv_tableOut (tgt := 126) hx hb dX6_status_41 (sw_out (fun k h1 h2 => by
                            have h3 : k = 0 ∨ k = 1 ∨ k = 2 ∨ k = 3 ∨ k = 4 ∨ k = 5 ∨ k = 6 ∨ k = 7 ∨ k = 8 ∨ k = 9 := by omega
                            rcases h3 with rfl | rfl | rfl | rfl | rfl | rfl | rfl | rfl | rfl | rfl
                            · exact lv_neT c0_0 rfl
                            · exact lv_neT c0_1 rfl
                            · exact lv_neT c0_2 rfl
                            · exact lv_neT c0_3 rfl
                            · exact lv_neT c0_4 rfl
                            · exact lv_neT c0_5 rfl
                            · exact lv_neT c0_6 rfl
                            · exact lv_neT c0_7 rfl
                            · exact lv_neT c0_8 rfl
                            · exact lv_neT c0_9 rfl
                            )) (by decide) ?_
                          refine lv_iconst (v := (-1)) hx hb dX6_status_126 (by decide) ?_
                          exact m_reti X hK hM hs dX6_status_127
    refine lv_icmp_lt (tgt := 40) hx hb dX6_status_24 (by decide) (fun c4 => ?_) (fun c4 => ?_)
    · replace hs := ifp c4 hs
      exact Ek40_0 _ _ _ hs hM hl
    · replace hs := ifn c4 hs
      refine lv_iload_n hx hb dX6_status_27 rfl (lv_at hl 1 rfl) ?_
      refine lv_iconst (v := 5) hx hb dX6_status_28 (by decide) ?_
      refine lv_icmp_gt (tgt := 40) hx hb dX6_status_29 (by decide) (fun c3 => ?_) (fun c3 => ?_)
      · replace hs := ifp c3 hs
        exact Ek40_0 _ _ _ hs hM hl
      · replace hs := ifn c3 hs
        refine lv_aload_n hx hb dX6_status_32 rfl (lv_at hl 0 rfl) ?_
        refine lv_iload_n hx hb dX6_status_33 rfl (lv_at hl 1 rfl) ?_
        refine lv_iconst (v := 2) hx hb dX6_status_34 (by decide) ?_
        refine lv_isub hx hb dX6_status_35 ?_
        refine m_calli (rest := []) (av := fun ad => [.int (a1 - 2)]) X hK hA hM (met_told l (a1 - 2) _ _ hs) iX6_told q1766 ⟨Nat.le_of_ble_eq_true rfl, Nat.le_of_ble_eq_true rfl⟩ rfl hl.1 rfl (Nat.le_of_ble_eq_true rfl) dX6_status_36 (fun r3 S2 H locs hs hM => ?_)
        exact m_reti X hK hM hs dX6_status_39
  refine lv_icmp_lt (tgt := 22) hx hb dX6_status_3 (by decide) (fun c7 => ?_) (fun c7 => ?_)
  · replace hs := ifp c7 hs
    exact Ek22_0 _ _ _ hs hM hl
  · replace hs := ifn c7 hs
    refine lv_iload_n hx hb dX6_status_6 rfl (lv_at hl 1 rfl) ?_
    refine lv_bipush (v := 17) hx hb dX6_status_7 (by decide) ?_
    refine lv_icmp_gt (tgt := 22) hx hb dX6_status_9 (by decide) (fun c6 => ?_) (fun c6 => ?_)
    · replace hs := ifp c6 hs
      exact Ek22_0 _ _ _ hs hM hl
    · replace hs := ifn c6 hs
      refine lv_aload_n hx hb dX6_status_12 rfl (lv_at hl 0 rfl) ?_
      refine m_geti (v := .ref (ad 10)) X hK hM 10 q1486 rfl rfl rfl dX6_status_13 ?_
      refine lv_iload_n hx hb dX6_status_16 rfl (lv_at hl 1 rfl) ?_
      refine lv_bipush (v := 10) hx hb dX6_status_17 (by decide) ?_
      refine lv_isub hx hb dX6_status_19 ?_
      obtain ⟨v6, ev6, hs⟩ := hs
      refine m_iald X hK hM rfl ev6 dX6_status_20 ?_
      exact m_reti X hK hM hs dX6_status_21
