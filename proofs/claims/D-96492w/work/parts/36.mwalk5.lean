set_option maxRecDepth 100000
def m_withRope (a1 : Int32) (S : MS) (K : Int32 → MS → Prop) : Prop := jn (fun (v1 : Int32) => (if (a1 + v1) ≤ 999 then K (a1 + v1) S else K 999 S)) (fun k25_1 => (if (S.1 4) ≤ (S.1 37) then k25_1 0 else k25_1 ((S.1 4) - (S.1 37))))
theorem iX6_withRope : mInf yX6_withRope cX6_withRope 3 (some .int) 1 := ⟨q1868, qs73, q1869, by decide +kernel⟩
set_option maxHeartbeats 4000000 in
theorem met_withRope (l : Launch) (a1 : Int32) (S : MS) (K : Int32 → MS → Prop) (hs : m_withRope a1 S K) : mMeti l yX6_withRope cX6_withRope 3 0 0 S (fun ad => [.int a1]) K := by
  intro D dT h ad sz
  refine mEnter (Qc := mQi D dT h ad K) (by decide) rfl (by rfl) ?_
  intro p e s m args below meth c A ls X hK hA hM hl
  have hx := X.1
  have hb := X.2.1
  have hts := X.2.2.2.2.1
  have hown := X.2.2.2.2.2.1
  have hl : lv_has ls 3 [(0, .ref h), (1, .int a1)] := hl
  unfold m_withRope at hs
  refine lv_iload_n hx hb dX6_withRope_0 rfl (lv_at hl 1 rfl) ?_
  refine lv_aload_n hx hb dX6_withRope_1 rfl (lv_at hl 0 rfl) ?_
  refine m_geti (v := .int (S.1 4)) X hK hM 4 q1480 rfl rfl rfl dX6_withRope_2 ?_
  refine lv_aload_n hx hb dX6_withRope_5 rfl (lv_at hl 0 rfl) ?_
  refine m_geti (v := .int (S.1 37)) X hK hM 37 q1513 rfl rfl rfl dX6_withRope_6 ?_
  obtain ⟨k25_1, hk25_1, hs⟩ := jn_ex hs
  have Ek25_1 : ∀ (v1 : Int32) (H : Heap) (locs : List Loc) (ls : Array Slot), k25_1 v1 → mI D dT A s.heap h ad S H locs → lv_has ls 3 [] → W p l e (mRm 0 0) s m args below meth c H locs 0 0 (MQ below (mQi D dT h ad K A) args s 0 0 A) (F0 m 25 ls [.int v1, .int a1]) := by
    intro v1 H locs ls hs hM hl
    rw [hk25_1] at hs
    refine lv_iadd hx hb dX6_withRope_25 ?_
    refine lv_istore_n (lv' := [(2, .int (a1 + v1))]) hx hb dX6_withRope_26 rfl hl (by decide) rfl (fun ls hl => ?_)
    refine lv_iload_n hx hb dX6_withRope_27 rfl (lv_at hl 0 rfl) ?_
    refine lv_sipush (v := 999) hx hb dX6_withRope_28 (by decide) ?_
    refine lv_icmp_le (tgt := 40) hx hb dX6_withRope_31 (by decide) (fun c1 => ?_) (fun c1 => ?_)
    · replace hs := ifp c1 hs
      refine lv_iload_n hx hb dX6_withRope_40 rfl (lv_at hl 0 rfl) ?_
      exact m_reti X hK hM hs dX6_withRope_41
    · replace hs := ifn c1 hs
      refine lv_sipush (v := 999) hx hb dX6_withRope_34 (by decide) ?_
      refine lv_goto (tgt := 41) hx hb dX6_withRope_37 (by decide) ?_
      exact m_reti X hK hM hs dX6_withRope_41
  refine lv_icmp_le (tgt := 24) hx hb dX6_withRope_9 (by decide) (fun c2 => ?_) (fun c2 => ?_)
  · replace hs := ifp c2 hs
    refine lv_iconst (v := 0) hx hb dX6_withRope_24 (by decide) ?_
    exact Ek25_1 _ _ _ _ hs hM (lv_sub hl [] rfl)
  · replace hs := ifn c2 hs
    refine lv_aload_n hx hb dX6_withRope_12 rfl (lv_at hl 0 rfl) ?_
    refine m_geti (v := .int (S.1 4)) X hK hM 4 q1480 rfl rfl rfl dX6_withRope_13 ?_
    refine lv_aload_n hx hb dX6_withRope_16 rfl (lv_at hl 0 rfl) ?_
    refine m_geti (v := .int (S.1 37)) X hK hM 37 q1513 rfl rfl rfl dX6_withRope_17 ?_
    refine lv_isub hx hb dX6_withRope_20 ?_
    refine lv_goto (tgt := 25) hx hb dX6_withRope_21 (by decide) ?_
    exact Ek25_1 _ _ _ _ hs hM (lv_sub hl [] rfl)
def m_in_l6 (k34_3 : Int32 → MS → Prop) : Nat → Int32 → MS → Prop
  | 0, _, _ => False
  | n6_9 + 1, x8, S9 => (if (S9.1 2) ≤ (S9.1 42) then k34_3 x8 S9 else (if 999 ≤ x8 then k34_3 x8 S9 else m_second  S9 (fun S11 => m_in_l6 k34_3 n6_9 (x8 + 1) S11)))
theorem m_in_l6_s (k34_3 : Int32 → MS → Prop) (n6_9 : Nat) (x8 : Int32) (S9 : MS) : m_in_l6 k34_3 (n6_9 + 1) x8 S9 = ((if (S9.1 2) ≤ (S9.1 42) then k34_3 x8 S9 else (if 999 ≤ x8 then k34_3 x8 S9 else m_second  S9 (fun S11 => m_in_l6 k34_3 n6_9 (x8 + 1) S11)))) := rfl
def m_in (S : MS) (K : Int32 → MS → Prop) : Prop := m_starts  S (fun S1 => jn (fun (x2 : Int32) (S3 : MS) => (if (S3.1 2) ≤ (S3.1 42) then m_withRope x2 S3 (fun r6 S5 => K r6 S5) else K 999 S3)) (fun k34_3 => m_in_l6 k34_3 NF 0 S1))
theorem iX6_in : mInf yX6_in cX6_in 2 (some .int) 0 := ⟨q1864, qs72, q1865, by decide +kernel⟩
set_option maxHeartbeats 4000000 in
theorem met_in (l : Launch)  (S : MS) (K : Int32 → MS → Prop) (hs : m_in  S K) : mMeti l yX6_in cX6_in 2 5 102 S (fun ad => []) K := by
  intro D dT h ad sz
  refine mEnter (Qc := mQi D dT h ad K) (by decide) rfl (by rfl) ?_
  intro p e s m args below meth c A ls X hK hA hM hl
  have hx := X.1
  have hb := X.2.1
  have hts := X.2.2.2.2.1
  have hown := X.2.2.2.2.2.1
  have hl : lv_has ls 2 [(0, .ref h)] := hl
  unfold m_in at hs
  refine lv_aload_n hx hb dX6_in_0 rfl (lv_at hl 0 rfl) ?_
  refine m_callv (rest := []) (av := fun ad => []) X hK hA hM (met_starts l  _ _ hs) iX6_starts q1830 ⟨Nat.le_of_ble_eq_true rfl, Nat.le_of_ble_eq_true rfl⟩ rfl hl.1 rfl (Nat.le_of_ble_eq_true rfl) dX6_in_1 (fun S1 H locs hs hM => ?_)
  refine lv_iconst (v := 0) hx hb dX6_in_4 (by decide) ?_
  refine lv_istore_n (lv' := [(1, .int 0), (0, .ref h)]) hx hb dX6_in_5 rfl hl (by decide) rfl (fun ls hl => ?_)
  obtain ⟨k34_3, hk34_3, hs⟩ := jn_ex hs
  have Ek34_3 : ∀ (x2 : Int32) (S3 : MS) (H : Heap) (locs : List Loc) (ls : Array Slot), k34_3 x2 S3 → mI D dT A s.heap h ad S3 H locs → lv_has ls 2 [(0, .ref h), (1, .int x2)] → W p l e (mRm 5 102) s m args below meth c H locs 0 0 (MQ below (mQi D dT h ad K A) args s 0 0 A) (F0 m 34 ls []) := by
    intro x2 S3 H locs ls hs hM hl
    rw [hk34_3] at hs
    refine lv_aload_n hx hb dX6_in_34 rfl (lv_at hl 0 rfl) ?_
    refine m_geti (v := .int (S3.1 42)) X hK hM 42 q1518 rfl rfl rfl dX6_in_35 ?_
    refine lv_aload_n hx hb dX6_in_38 rfl (lv_at hl 0 rfl) ?_
    refine m_geti (v := .int (S3.1 2)) X hK hM 2 q1478 rfl rfl rfl dX6_in_39 ?_
    refine lv_icmp_ge (tgt := 51) hx hb dX6_in_42 (by decide) (fun c6 => ?_) (fun c6 => ?_)
    · replace hs := ifp c6 hs
      refine lv_aload_n hx hb dX6_in_51 rfl (lv_at hl 0 rfl) ?_
      refine lv_iload_n hx hb dX6_in_52 rfl (lv_at hl 1 rfl) ?_
      refine m_calli (rest := []) (av := fun ad => [.int x2]) X hK hA hM (met_withRope l x2 _ _ hs) iX6_withRope q1866 ⟨Nat.le_of_ble_eq_true rfl, Nat.le_of_ble_eq_true rfl⟩ rfl hl.1 rfl (Nat.le_of_ble_eq_true rfl) dX6_in_53 (fun r6 S5 H locs hs hM => ?_)
      exact m_reti X hK hM hs dX6_in_56
    · replace hs := ifn c6 hs
      refine lv_sipush (v := 999) hx hb dX6_in_45 (by decide) ?_
      refine lv_goto (tgt := 56) hx hb dX6_in_48 (by decide) ?_
      exact m_reti X hK hM hs dX6_in_56
  have Lm_in_l6 : ∀ (n6_9 : Nat) (x8 : Int32) (S9 : MS) (H : Heap) (locs : List Loc) (ls : Array Slot), m_in_l6 k34_3 n6_9 x8 S9 → mI D dT A s.heap h ad S9 H locs → lv_has ls 2 [(0, .ref h), (1, .int x8)] → W p l e (mRm 5 102) s m args below meth c H locs 0 0 (MQ below (mQi D dT h ad K A) args s 0 0 A) (F0 m 6 ls []) := by
    intro n6_9
    induction n6_9 with
    | zero =>
      intro x8 S9 H locs ls hs
      exact False.elim hs
    | succ n6_9 ihm_in_l6 =>
      intro x8 S9 H locs ls hs hM hl
      rw [m_in_l6_s] at hs
      refine lv_aload_n hx hb dX6_in_6 rfl (lv_at hl 0 rfl) ?_
      refine m_geti (v := .int (S9.1 42)) X hK hM 42 q1518 rfl rfl rfl dX6_in_7 ?_
      refine lv_aload_n hx hb dX6_in_10 rfl (lv_at hl 0 rfl) ?_
      refine m_geti (v := .int (S9.1 2)) X hK hM 2 q1478 rfl rfl rfl dX6_in_11 ?_
      refine lv_icmp_ge (tgt := 34) hx hb dX6_in_14 (by decide) (fun c12 => ?_) (fun c12 => ?_)
      · replace hs := ifp c12 hs
        exact Ek34_3 _ _ _ _ _ hs hM hl
      · replace hs := ifn c12 hs
        refine lv_iload_n hx hb dX6_in_17 rfl (lv_at hl 1 rfl) ?_
        refine lv_sipush (v := 999) hx hb dX6_in_18 (by decide) ?_
        refine lv_icmp_ge (tgt := 34) hx hb dX6_in_21 (by decide) (fun c11 => ?_) (fun c11 => ?_)
        · replace hs := ifp c11 hs
          exact Ek34_3 _ _ _ _ _ hs hM hl
        · replace hs := ifn c11 hs
          refine lv_aload_n hx hb dX6_in_24 rfl (lv_at hl 0 rfl) ?_
          refine m_callv (rest := []) (av := fun ad => []) X hK hA hM (met_second l  _ _ hs) iX6_second q1834 ⟨Nat.le_of_ble_eq_true rfl, Nat.le_of_ble_eq_true rfl⟩ rfl hl.1 rfl (Nat.le_of_ble_eq_true rfl) dX6_in_25 (fun S11 H locs hs hM => ?_)
          refine lv_iinc (v := (x8 + 1)) (lv' := [(1, .int (x8 + 1)), (0, .ref h)]) hx hb dX6_in_28 hl (k := 1) rfl (congrArg (fun z => x8 + z) (show Int32.ofInt (1) = 1 by decide)) (by decide) rfl (fun ls hl => ?_)
          refine lv_goto (tgt := 6) hx hb dX6_in_31 (by decide) ?_
          exact ihm_in_l6 _ _ _ _ _ hs hM (lv_sub hl [1, 0] rfl)
  exact Lm_in_l6 NF _ _ _ _ _ hs hM (lv_sub hl [1, 0] rfl)
def m_inOf (a1 : Int32) (S : MS) (K : Int32 → MS → Prop) : Prop := m_puts a1 S (fun S1 => m_in  S1 (fun r3 S2 => K r3 S2))
theorem iX6_inOf : mInf yX6_inOf cX6_inOf 2 (some .int) 1 := ⟨q1860, qs71, q1861, by decide +kernel⟩
set_option maxHeartbeats 4000000 in
theorem met_inOf (l : Launch) (a1 : Int32) (S : MS) (K : Int32 → MS → Prop) (hs : m_inOf a1 S K) : mMeti l yX6_inOf cX6_inOf 2 6 123 S (fun ad => [.int a1]) K := by
  intro D dT h ad sz
  refine mEnter (Qc := mQi D dT h ad K) (by decide) rfl (by rfl) ?_
  intro p e s m args below meth c A ls X hK hA hM hl
  have hx := X.1
  have hb := X.2.1
  have hts := X.2.2.2.2.1
  have hown := X.2.2.2.2.2.1
  have hl : lv_has ls 2 [(0, .ref h), (1, .int a1)] := hl
  unfold m_inOf at hs
  refine lv_aload_n hx hb dX6_inOf_0 rfl (lv_at hl 0 rfl) ?_
  refine lv_iload_n hx hb dX6_inOf_1 rfl (lv_at hl 1 rfl) ?_
  refine m_callv (rest := []) (av := fun ad => [.int a1]) X hK hA hM (met_puts l a1 _ _ hs) iX6_puts q1694 ⟨Nat.le_of_ble_eq_true rfl, Nat.le_of_ble_eq_true rfl⟩ rfl hl.1 rfl (Nat.le_of_ble_eq_true rfl) dX6_inOf_2 (fun S1 H locs hs hM => ?_)
  refine lv_aload_n hx hb dX6_inOf_5 rfl (lv_at hl 0 rfl) ?_
  refine m_calli (rest := []) (av := fun ad => []) X hK hA hM (met_in l  _ _ hs) iX6_in q1862 ⟨Nat.le_of_ble_eq_true rfl, Nat.le_of_ble_eq_true rfl⟩ rfl hl.1 rfl (Nat.le_of_ble_eq_true rfl) dX6_inOf_6 (fun r3 S2 H locs hs hM => ?_)
  exact m_reti X hK hM hs dX6_inOf_9
def m_comesIn (a1 : Int32) (S : MS) (K : Int32 → MS → Prop) : Prop := m_isChild a1 S (fun r2 S1 => (if r2 = 0 then m_no (-1) S1 (fun r4 S3 => K r4 S3) else m_inOf a1 S1 (fun r6 S5 => K r6 S5)))
theorem iX6_comesIn : mInf yX6_comesIn cX6_comesIn 2 (some .int) 1 := ⟨q1855, q1856, q1857, by decide +kernel⟩
set_option maxHeartbeats 4000000 in
theorem met_comesIn (l : Launch) (a1 : Int32) (S : MS) (K : Int32 → MS → Prop) (hs : m_comesIn a1 S K) : mMeti l yX6_comesIn cX6_comesIn 2 7 144 S (fun ad => [.int a1]) K := by
  intro D dT h ad sz
  refine mEnter (Qc := mQi D dT h ad K) (by decide) rfl (by rfl) ?_
  intro p e s m args below meth c A ls X hK hA hM hl
  have hx := X.1
  have hb := X.2.1
  have hts := X.2.2.2.2.1
  have hown := X.2.2.2.2.2.1
  have hl : lv_has ls 2 [(0, .ref h), (1, .int a1)] := hl
  unfold m_comesIn at hs
  refine lv_aload_n hx hb dX6_comesIn_0 rfl (lv_at hl 0 rfl) ?_
  refine lv_iload_n hx hb dX6_comesIn_1 rfl (lv_at hl 1 rfl) ?_
  refine m_callz (rest := []) (av := fun ad => [.int a1]) X hK hA hM (met_isChild l a1 _ _ hs) iX6_isChild q1682 ⟨Nat.le_of_ble_eq_true rfl, Nat.le_of_ble_eq_true rfl⟩ rfl hl.1 rfl (Nat.le_of_ble_eq_true rfl) dX6_comesIn_2 (fun r2 S1 H locs br2 hs hM => ?_)
  refine lv_if_eq (tgt := 16) hx hb dX6_comesIn_5 (by decide) (fun c6 => ?_) (fun c6 => ?_)
  · replace hs := ifp c6 hs
    refine lv_aload_n hx hb dX6_comesIn_16 rfl (lv_at hl 0 rfl) ?_
    refine lv_iconst (v := (-1)) hx hb dX6_comesIn_17 (by decide) ?_
    refine m_calli (rest := []) (av := fun ad => [.int (-1)]) X hK hA hM (met_no l (-1) _ _ hs) iX6_no q1662 ⟨Nat.le_of_ble_eq_true rfl, Nat.le_of_ble_eq_true rfl⟩ rfl hl.1 rfl (Nat.le_of_ble_eq_true rfl) dX6_comesIn_18 (fun r4 S3 H locs hs hM => ?_)
    exact m_reti X hK hM hs dX6_comesIn_21
  · replace hs := ifn c6 hs
    refine lv_aload_n hx hb dX6_comesIn_8 rfl (lv_at hl 0 rfl) ?_
    refine lv_iload_n hx hb dX6_comesIn_9 rfl (lv_at hl 1 rfl) ?_
    refine m_calli (rest := []) (av := fun ad => [.int a1]) X hK hA hM (met_inOf l a1 _ _ hs) iX6_inOf q1858 ⟨Nat.le_of_ble_eq_true rfl, Nat.le_of_ble_eq_true rfl⟩ rfl hl.1 rfl (Nat.le_of_ble_eq_true rfl) dX6_comesIn_10 (fun r6 S5 H locs hs hM => ?_)
    refine lv_goto (tgt := 21) hx hb dX6_comesIn_13 (by decide) ?_
    exact m_reti X hK hM hs dX6_comesIn_21
def m_firstIn_l4 (K : Int32 → MS → Prop) : Nat → Int32 → Int32 → MS → Prop
  | 0, _, _, _ => False
  | n4_3 + 1, x1, x2, S3 => (if (S3.1 0) ≤ x2 then K x1 S3 else m_inOf x2 S3 (fun r6 S5 => m_inOf x1 S5 (fun r8 S7 => jn (fun (x9 : Int32) => m_firstIn_l4 K n4_3 x9 (x2 + 1) S7) (fun k27_9 => (if r8 ≤ r6 then k27_9 x1 else k27_9 x2)))))
theorem m_firstIn_l4_s (K : Int32 → MS → Prop) (n4_3 : Nat) (x1 : Int32) (x2 : Int32) (S3 : MS) : m_firstIn_l4 K (n4_3 + 1) x1 x2 S3 = ((if (S3.1 0) ≤ x2 then K x1 S3 else m_inOf x2 S3 (fun r6 S5 => m_inOf x1 S5 (fun r8 S7 => jn (fun (x9 : Int32) => m_firstIn_l4 K n4_3 x9 (x2 + 1) S7) (fun k27_9 => (if r8 ≤ r6 then k27_9 x1 else k27_9 x2)))))) := rfl
def m_firstIn (S : MS) (K : Int32 → MS → Prop) : Prop := m_firstIn_l4 K NF 0 1 S
theorem iX6_firstIn : mInf yX6_firstIn cX6_firstIn 3 (some .int) 0 := ⟨q1876, qs74, q1877, by decide +kernel⟩
set_option maxHeartbeats 4000000 in
theorem met_firstIn (l : Launch)  (S : MS) (K : Int32 → MS → Prop) (hs : m_firstIn  S K) : mMeti l yX6_firstIn cX6_firstIn 3 7 144 S (fun ad => []) K := by
  intro D dT h ad sz
  refine mEnter (Qc := mQi D dT h ad K) (by decide) rfl (by rfl) ?_
  intro p e s m args below meth c A ls X hK hA hM hl
  have hx := X.1
  have hb := X.2.1
  have hts := X.2.2.2.2.1
  have hown := X.2.2.2.2.2.1
  have hl : lv_has ls 3 [(0, .ref h)] := hl
  unfold m_firstIn at hs
  refine lv_iconst (v := 0) hx hb dX6_firstIn_0 (by decide) ?_
  refine lv_istore_n (lv' := [(1, .int 0), (0, .ref h)]) hx hb dX6_firstIn_1 rfl hl (by decide) rfl (fun ls hl => ?_)
  refine lv_iconst (v := 1) hx hb dX6_firstIn_2 (by decide) ?_
  refine lv_istore_n (lv' := [(2, .int 1), (1, .int 0), (0, .ref h)]) hx hb dX6_firstIn_3 rfl hl (by decide) rfl (fun ls hl => ?_)
  have Lm_firstIn_l4 : ∀ (n4_3 : Nat) (x1 : Int32) (x2 : Int32) (S3 : MS) (H : Heap) (locs : List Loc) (ls : Array Slot), m_firstIn_l4 K n4_3 x1 x2 S3 → mI D dT A s.heap h ad S3 H locs → lv_has ls 3 [(0, .ref h), (1, .int x1), (2, .int x2)] → W p l e (mRm 7 144) s m args below meth c H locs 0 0 (MQ below (mQi D dT h ad K A) args s 0 0 A) (F0 m 4 ls []) := by
    intro n4_3
    induction n4_3 with
    | zero =>
      intro x1 x2 S3 H locs ls hs
      exact False.elim hs
    | succ n4_3 ihm_firstIn_l4 =>
      intro x1 x2 S3 H locs ls hs hM hl
      rw [m_firstIn_l4_s] at hs
      refine lv_iload_n hx hb dX6_firstIn_4 rfl (lv_at hl 2 rfl) ?_
      refine lv_aload_n hx hb dX6_firstIn_5 rfl (lv_at hl 0 rfl) ?_
      refine m_geti (v := .int (S3.1 0)) X hK hM 0 q1476 rfl rfl rfl dX6_firstIn_6 ?_
      refine lv_icmp_ge (tgt := 33) hx hb dX6_firstIn_9 (by decide) (fun c10 => ?_) (fun c10 => ?_)
      · replace hs := ifp c10 hs
        refine lv_iload_n hx hb dX6_firstIn_33 rfl (lv_at hl 1 rfl) ?_
        exact m_reti X hK hM hs dX6_firstIn_34
      · replace hs := ifn c10 hs
        refine lv_aload_n hx hb dX6_firstIn_12 rfl (lv_at hl 0 rfl) ?_
        refine lv_iload_n hx hb dX6_firstIn_13 rfl (lv_at hl 2 rfl) ?_
        refine m_calli (rest := []) (av := fun ad => [.int x2]) X hK hA hM (met_inOf l x2 _ _ hs) iX6_inOf q1858 ⟨Nat.le_of_ble_eq_true rfl, Nat.le_of_ble_eq_true rfl⟩ rfl hl.1 rfl (Nat.le_of_ble_eq_true rfl) dX6_firstIn_14 (fun r6 S5 H locs hs hM => ?_)
        refine lv_aload_n hx hb dX6_firstIn_17 rfl (lv_at hl 0 rfl) ?_
        refine lv_iload_n hx hb dX6_firstIn_18 rfl (lv_at hl 1 rfl) ?_
        refine m_calli (rest := [.int r6]) (av := fun ad => [.int x1]) X hK hA hM (met_inOf l x1 _ _ hs) iX6_inOf q1858 ⟨Nat.le_of_ble_eq_true rfl, Nat.le_of_ble_eq_true rfl⟩ rfl hl.1 rfl (Nat.le_of_ble_eq_true rfl) dX6_firstIn_19 (fun r8 S7 H locs hs hM => ?_)
        obtain ⟨k27_9, hk27_9, hs⟩ := jn_ex hs
        have Ek27_9 : ∀ (x9 : Int32) (H : Heap) (locs : List Loc) (ls : Array Slot), k27_9 x9 → mI D dT A s.heap h ad S7 H locs → lv_has ls 3 [(0, .ref h), (1, .int x9), (2, .int x2)] → W p l e (mRm 7 144) s m args below meth c H locs 0 0 (MQ below (mQi D dT h ad K A) args s 0 0 A) (F0 m 27 ls []) := by
          intro x9 H locs ls hs hM hl
          rw [hk27_9] at hs
          refine lv_iinc (v := (x2 + 1)) (lv' := [(2, .int (x2 + 1)), (0, .ref h), (1, .int x9)]) hx hb dX6_firstIn_27 hl (k := 2) rfl (congrArg (fun z => x2 + z) (show Int32.ofInt (1) = 1 by decide)) (by decide) rfl (fun ls hl => ?_)
          refine lv_goto (tgt := 4) hx hb dX6_firstIn_30 (by decide) ?_
          exact ihm_firstIn_l4 _ _ _ _ _ _ hs hM (lv_sub hl [1, 2, 0] rfl)
        refine lv_icmp_ge (tgt := 27) hx hb dX6_firstIn_22 (by decide) (fun c9 => ?_) (fun c9 => ?_)
        · replace hs := ifp c9 hs
          exact Ek27_9 _ _ _ _ hs hM hl
        · replace hs := ifn c9 hs
          refine lv_iload_n hx hb dX6_firstIn_25 rfl (lv_at hl 2 rfl) ?_
          refine lv_istore_n (lv' := [(1, .int x2), (0, .ref h), (2, .int x2)]) hx hb dX6_firstIn_26 rfl hl (by decide) rfl (fun ls hl => ?_)
          exact Ek27_9 _ _ _ _ hs hM (lv_sub hl [1, 0, 2] rfl)
  exact Lm_firstIn_l4 NF _ _ _ _ _ _ hs hM (lv_sub hl [2, 1, 0] rfl)
def m_wins_l33 (r4 : Int32) (k83_6 : Int32 → MS → Prop) : Nat → Int32 → Int32 → MS → Prop
  | 0, _, _, _ => False
  | n33_14 + 1, x12, x13, S14 => (if (S14.1 0) ≤ x13 then k83_6 x12 S14 else jn (fun (x16 : Int32) (S17 : MS) => m_wins_l33 r4 k83_6 n33_14 x16 (x13 + 1) S17) (fun k77_17 => (if x13 = r4 then k77_17 x12 S14 else m_inOf x13 S14 (fun r19 S18 => jn (k77_17 r19 S18) (fun k70_19 => jn (fun (v20 : Int32) => k77_17 v20 S18) (fun k76_20 => (if x12 = (-1) then k70_19 else (if x12 ≤ r19 then k76_20 x12 else k70_19))))))))
theorem m_wins_l33_s (r4 : Int32) (k83_6 : Int32 → MS → Prop) (n33_14 : Nat) (x12 : Int32) (x13 : Int32) (S14 : MS) : m_wins_l33 r4 k83_6 (n33_14 + 1) x12 x13 S14 = ((if (S14.1 0) ≤ x13 then k83_6 x12 S14 else jn (fun (x16 : Int32) (S17 : MS) => m_wins_l33 r4 k83_6 n33_14 x16 (x13 + 1) S17) (fun k77_17 => (if x13 = r4 then k77_17 x12 S14 else m_inOf x13 S14 (fun r19 S18 => jn (k77_17 r19 S18) (fun k70_19 => jn (fun (v20 : Int32) => k77_17 v20 S18) (fun k76_20 => (if x12 = (-1) then k70_19 else (if x12 ≤ r19 then k76_20 x12 else k70_19))))))))) := rfl
def m_wins (a1 : Int32) (S : MS) (K : Int32 → MS → Prop) : Prop := jn (m_no (-5) S (fun r2 S1 => K r2 S1)) (fun k16_0 => (if a1 < 0 then k16_0 else (if 1 < a1 then k16_0 else (if (S.1 0) = 0 then k16_0 else m_firstIn  S (fun r4 S3 => jn (fun (x5 : Int32) (S6 : MS) => (if a1 = 0 then K r4 S6 else (if x5 = (-1) then K 0 S6 else m_inOf r4 S6 (fun r9 S8 => K (x5 - r9) S8)))) (fun k83_6 => m_wins_l33 r4 k83_6 NF (-1) 0 S3))))))
theorem iX6_wins : mInf yX6_wins cX6_wins 6 (some .int) 1 := ⟨q1871, q1872, q1873, by decide +kernel⟩
set_option maxHeartbeats 4000000 in
theorem met_wins (l : Launch) (a1 : Int32) (S : MS) (K : Int32 → MS → Prop) (hs : m_wins a1 S K) : mMeti l yX6_wins cX6_wins 6 8 166 S (fun ad => [.int a1]) K := by
  intro D dT h ad sz
  refine mEnter (Qc := mQi D dT h ad K) (by decide) rfl (by rfl) ?_
  intro p e s m args below meth c A ls X hK hA hM hl
  have hx := X.1
  have hb := X.2.1
  have hts := X.2.2.2.2.1
  have hown := X.2.2.2.2.2.1
  have hl : lv_has ls 6 [(0, .ref h), (1, .int a1)] := hl
  unfold m_wins at hs
  refine lv_iload_n hx hb dX6_wins_0 rfl (lv_at hl 1 rfl) ?_
  obtain ⟨k16_0, hk16_0, hs⟩ := jn_ex hs
  have Ek16_0 : ∀ (H : Heap) (locs : List Loc) (ls : Array Slot), k16_0 → mI D dT A s.heap h ad S H locs → lv_has ls 6 [(0, .ref h)] → W p l e (mRm 8 166) s m args below meth c H locs 0 0 (MQ below (mQi D dT h ad K A) args s 0 0 A) (F0 m 16 ls []) := by
    intro H locs ls hs hM hl
    rw [hk16_0] at hs
    refine lv_aload_n hx hb dX6_wins_16 rfl (lv_at hl 0 rfl) ?_
    refine lv_bipush (v := (-5)) hx hb dX6_wins_17 (by decide) ?_
    refine m_calli (rest := []) (av := fun ad => [.int (-5)]) X hK hA hM (met_no l (-5) _ _ hs) iX6_no q1662 ⟨Nat.le_of_ble_eq_true rfl, Nat.le_of_ble_eq_true rfl⟩ rfl hl.1 rfl (Nat.le_of_ble_eq_true rfl) dX6_wins_19 (fun r2 S1 H locs hs hM => ?_)
    exact m_reti X hK hM hs dX6_wins_22
  refine lv_if_lt (tgt := 16) hx hb dX6_wins_1 (by decide) (fun c26 => ?_) (fun c26 => ?_)
  · replace hs := ifp c26 hs
    exact Ek16_0 _ _ _ hs hM (lv_sub hl [0] rfl)
  · replace hs := ifn c26 hs
    refine lv_iload_n hx hb dX6_wins_4 rfl (lv_at hl 1 rfl) ?_
    refine lv_iconst (v := 1) hx hb dX6_wins_5 (by decide) ?_
    refine lv_icmp_gt (tgt := 16) hx hb dX6_wins_6 (by decide) (fun c25 => ?_) (fun c25 => ?_)
    · replace hs := ifp c25 hs
      exact Ek16_0 _ _ _ hs hM (lv_sub hl [0] rfl)
    · replace hs := ifn c25 hs
      refine lv_aload_n hx hb dX6_wins_9 rfl (lv_at hl 0 rfl) ?_
      refine m_geti (v := .int (S.1 0)) X hK hM 0 q1476 rfl rfl rfl dX6_wins_10 ?_
      refine lv_if_ne (tgt := 23) hx hb dX6_wins_13 (by decide) (fun c24 => ?_) (fun c24 => ?_)
      · replace hs := ifn c24 hs
        refine lv_aload_n hx hb dX6_wins_23 rfl (lv_at hl 0 rfl) ?_
        refine m_calli (rest := []) (av := fun ad => []) X hK hA hM (met_firstIn l  _ _ hs) iX6_firstIn q1874 ⟨Nat.le_of_ble_eq_true rfl, Nat.le_of_ble_eq_true rfl⟩ rfl hl.1 rfl (Nat.le_of_ble_eq_true rfl) dX6_wins_24 (fun r4 S3 H locs hs hM => ?_)
        refine lv_istore_n (lv' := [(2, .int r4), (0, .ref h), (1, .int a1)]) hx hb dX6_wins_27 rfl hl (by decide) rfl (fun ls hl => ?_)
        refine lv_iconst (v := (-1)) hx hb dX6_wins_28 (by decide) ?_
        refine lv_istore_n (lv' := [(3, .int (-1)), (2, .int r4), (0, .ref h), (1, .int a1)]) hx hb dX6_wins_29 rfl hl (by decide) rfl (fun ls hl => ?_)
        refine lv_iconst (v := 0) hx hb dX6_wins_30 (by decide) ?_
        refine lv_istore (lv' := [(4, .int 0), (3, .int (-1)), (2, .int r4), (0, .ref h), (1, .int a1)]) hx hb dX6_wins_31 hl (by decide) rfl (fun ls hl => ?_)
        obtain ⟨k83_6, hk83_6, hs⟩ := jn_ex hs
        have Ek83_6 : ∀ (x5 : Int32) (S6 : MS) (H : Heap) (locs : List Loc) (ls : Array Slot), k83_6 x5 S6 → mI D dT A s.heap h ad S6 H locs → lv_has ls 6 [(0, .ref h), (1, .int a1), (2, .int r4), (3, .int x5)] → W p l e (mRm 8 166) s m args below meth c H locs 0 0 (MQ below (mQi D dT h ad K A) args s 0 0 A) (F0 m 83 ls []) := by
          intro x5 S6 H locs ls hs hM hl
          rw [hk83_6] at hs
          refine lv_iload_n hx hb dX6_wins_83 rfl (lv_at hl 1 rfl) ?_
          refine lv_if_ne (tgt := 91) hx hb dX6_wins_84 (by decide) (fun c10 => ?_) (fun c10 => ?_)
          · replace hs := ifn c10 hs
            refine lv_iload_n hx hb dX6_wins_91 rfl (lv_at hl 3 rfl) ?_
            refine lv_iconst (v := (-1)) hx hb dX6_wins_92 (by decide) ?_
            refine lv_icmp_ne (tgt := 100) hx hb dX6_wins_93 (by decide) (fun c9 => ?_) (fun c9 => ?_)
            · replace hs := ifn c9 hs
              refine lv_iload_n hx hb dX6_wins_100 rfl (lv_at hl 3 rfl) ?_
              refine lv_aload_n hx hb dX6_wins_101 rfl (lv_at hl 0 rfl) ?_
              refine lv_iload_n hx hb dX6_wins_102 rfl (lv_at hl 2 rfl) ?_
              refine m_calli (rest := [.int x5]) (av := fun ad => [.int r4]) X hK hA hM (met_inOf l r4 _ _ hs) iX6_inOf q1858 ⟨Nat.le_of_ble_eq_true rfl, Nat.le_of_ble_eq_true rfl⟩ rfl hl.1 rfl (Nat.le_of_ble_eq_true rfl) dX6_wins_103 (fun r9 S8 H locs hs hM => ?_)
              refine lv_isub hx hb dX6_wins_106 ?_
              exact m_reti X hK hM hs dX6_wins_107
            · replace hs := ifp c9 hs
              refine lv_iconst (v := 0) hx hb dX6_wins_96 (by decide) ?_
              refine lv_goto (tgt := 107) hx hb dX6_wins_97 (by decide) ?_
              exact m_reti X hK hM hs dX6_wins_107
          · replace hs := ifp c10 hs
            refine lv_iload_n hx hb dX6_wins_87 rfl (lv_at hl 2 rfl) ?_
            refine lv_goto (tgt := 107) hx hb dX6_wins_88 (by decide) ?_
            exact m_reti X hK hM hs dX6_wins_107
        have Lm_wins_l33 : ∀ (n33_14 : Nat) (x12 : Int32) (x13 : Int32) (S14 : MS) (H : Heap) (locs : List Loc) (ls : Array Slot), m_wins_l33 r4 k83_6 n33_14 x12 x13 S14 → mI D dT A s.heap h ad S14 H locs → lv_has ls 6 [(0, .ref h), (1, .int a1), (2, .int r4), (3, .int x12), (4, .int x13)] → W p l e (mRm 8 166) s m args below meth c H locs 0 0 (MQ below (mQi D dT h ad K A) args s 0 0 A) (F0 m 33 ls []) := by
          intro n33_14
          induction n33_14 with
          | zero =>
            intro x12 x13 S14 H locs ls hs
            exact False.elim hs
          | succ n33_14 ihm_wins_l33 =>
            intro x12 x13 S14 H locs ls hs hM hl
            rw [m_wins_l33_s] at hs
            refine lv_iload hx hb dX6_wins_33 (lv_at hl 4 rfl) ?_
            refine lv_aload_n hx hb dX6_wins_35 rfl (lv_at hl 0 rfl) ?_
            refine m_geti (v := .int (S14.1 0)) X hK hM 0 q1476 rfl rfl rfl dX6_wins_36 ?_
            refine lv_icmp_ge (tgt := 83) hx hb dX6_wins_39 (by decide) (fun c23 => ?_) (fun c23 => ?_)
            · replace hs := ifp c23 hs
              exact Ek83_6 _ _ _ _ _ hs hM (lv_sub hl [0, 1, 2, 3] rfl)
            · replace hs := ifn c23 hs
              refine lv_iload hx hb dX6_wins_42 (lv_at hl 4 rfl) ?_
              refine lv_iload_n hx hb dX6_wins_44 rfl (lv_at hl 2 rfl) ?_
              obtain ⟨k77_17, hk77_17, hs⟩ := jn_ex hs
              have Ek77_17 : ∀ (x16 : Int32) (S17 : MS) (H : Heap) (locs : List Loc) (ls : Array Slot), k77_17 x16 S17 → mI D dT A s.heap h ad S17 H locs → lv_has ls 6 [(0, .ref h), (1, .int a1), (2, .int r4), (3, .int x16), (4, .int x13)] → W p l e (mRm 8 166) s m args below meth c H locs 0 0 (MQ below (mQi D dT h ad K A) args s 0 0 A) (F0 m 77 ls []) := by
                intro x16 S17 H locs ls hs hM hl
                rw [hk77_17] at hs
                refine lv_iinc (v := (x13 + 1)) (lv' := [(4, .int (x13 + 1)), (0, .ref h), (1, .int a1), (2, .int r4), (3, .int x16)]) hx hb dX6_wins_77 hl (k := 4) rfl (congrArg (fun z => x13 + z) (show Int32.ofInt (1) = 1 by decide)) (by decide) rfl (fun ls hl => ?_)
                refine lv_goto (tgt := 33) hx hb dX6_wins_80 (by decide) ?_
                exact ihm_wins_l33 _ _ _ _ _ _ hs hM (lv_sub hl [1, 2, 3, 4, 0] rfl)
              refine lv_icmp_ne (tgt := 51) hx hb dX6_wins_45 (by decide) (fun c22 => ?_) (fun c22 => ?_)
              · replace hs := ifn c22 hs
                refine lv_aload_n hx hb dX6_wins_51 rfl (lv_at hl 0 rfl) ?_
                refine lv_iload hx hb dX6_wins_52 (lv_at hl 4 rfl) ?_
                refine m_calli (rest := []) (av := fun ad => [.int x13]) X hK hA hM (met_inOf l x13 _ _ hs) iX6_inOf q1858 ⟨Nat.le_of_ble_eq_true rfl, Nat.le_of_ble_eq_true rfl⟩ rfl hl.1 rfl (Nat.le_of_ble_eq_true rfl) dX6_wins_54 (fun r19 S18 H locs hs hM => ?_)
                refine lv_istore (lv' := [(5, .int r19), (0, .ref h), (1, .int a1), (2, .int r4), (3, .int x12), (4, .int x13)]) hx hb dX6_wins_57 hl (by decide) rfl (fun ls hl => ?_)
                refine lv_iload_n hx hb dX6_wins_59 rfl (lv_at hl 4 rfl) ?_
                refine lv_iconst (v := (-1)) hx hb dX6_wins_60 (by decide) ?_
                obtain ⟨k70_19, hk70_19, hs⟩ := jn_ex hs
                have Ek70_19 : ∀ (H : Heap) (locs : List Loc) (ls : Array Slot), k70_19 → mI D dT A s.heap h ad S18 H locs → lv_has ls 6 [(0, .ref h), (1, .int a1), (2, .int r4), (4, .int x13), (5, .int r19)] → W p l e (mRm 8 166) s m args below meth c H locs 0 0 (MQ below (mQi D dT h ad K A) args s 0 0 A) (F0 m 70 ls []) := by
                  intro H locs ls hs hM hl
                  rw [hk70_19] at hs
                  refine lv_iload hx hb dX6_wins_70 (lv_at hl 4 rfl) ?_
                  refine lv_goto (tgt := 76) hx hb dX6_wins_72 (by decide) ?_
                  refine lv_istore_n (lv' := [(3, .int r19), (0, .ref h), (1, .int a1), (2, .int r4), (4, .int x13), (5, .int r19)]) hx hb dX6_wins_76 rfl hl (by decide) rfl (fun ls hl => ?_)
                  exact Ek77_17 _ _ _ _ _ hs hM (lv_sub hl [1, 2, 3, 0, 4] rfl)
                obtain ⟨k76_20, hk76_20, hs⟩ := jn_ex hs
                have Ek76_20 : ∀ (v20 : Int32) (H : Heap) (locs : List Loc) (ls : Array Slot), k76_20 v20 → mI D dT A s.heap h ad S18 H locs → lv_has ls 6 [(0, .ref h), (1, .int a1), (2, .int r4), (4, .int x13)] → W p l e (mRm 8 166) s m args below meth c H locs 0 0 (MQ below (mQi D dT h ad K A) args s 0 0 A) (F0 m 76 ls [.int v20]) := by
                  intro v20 H locs ls hs hM hl
                  rw [hk76_20] at hs
                  refine lv_istore_n (lv' := [(3, .int v20), (0, .ref h), (1, .int a1), (2, .int r4), (4, .int x13)]) hx hb dX6_wins_76 rfl hl (by decide) rfl (fun ls hl => ?_)
                  exact Ek77_17 _ _ _ _ _ hs hM (lv_sub hl [1, 2, 3, 0, 4] rfl)
                refine lv_icmp_eq (tgt := 70) hx hb dX6_wins_61 (by decide) (fun c21 => ?_) (fun c21 => ?_)
                · replace hs := ifp c21 hs
                  exact Ek70_19 _ _ _ hs hM (lv_sub hl [1, 2, 3, 5, 0] rfl)
                · replace hs := ifn c21 hs
                  refine lv_iload hx hb dX6_wins_64 (lv_at hl 0 rfl) ?_
                  refine lv_iload_n hx hb dX6_wins_66 rfl (lv_at hl 4 rfl) ?_
                  refine lv_icmp_ge (tgt := 75) hx hb dX6_wins_67 (by decide) (fun c20 => ?_) (fun c20 => ?_)
                  · replace hs := ifp c20 hs
                    refine lv_iload_n hx hb dX6_wins_75 rfl (lv_at hl 4 rfl) ?_
                    exact Ek76_20 _ _ _ _ hs hM (lv_sub hl [1, 2, 3, 5] rfl)
                  · replace hs := ifn c20 hs
                    exact Ek70_19 _ _ _ hs hM (lv_sub hl [1, 2, 3, 5, 0] rfl)
              · replace hs := ifp c22 hs
                refine lv_goto (tgt := 77) hx hb dX6_wins_48 (by decide) ?_
                exact Ek77_17 _ _ _ _ _ hs hM hl
        exact Lm_wins_l33 NF _ _ _ _ _ _ hs hM (lv_sub hl [3, 4, 2, 1, 0] rfl)
      · replace hs := ifp c24 hs
        exact Ek16_0 _ _ _ hs hM (lv_sub hl [0] rfl)
def m_inWith (a1 : Int32) (a2 : Int32) (S : MS) (K : Int32 → MS → Prop) : Prop := m_puts a1 S (fun S1 => m_putsIn a2 S1 (fun S2 => m_in  S2 (fun r4 S3 => K r4 S3)))
theorem iX6_inWith : mInf yX6_inWith cX6_inWith 3 (some .int) 2 := ⟨q1896, qs78, q1897, by decide +kernel⟩
set_option maxHeartbeats 4000000 in
theorem met_inWith (l : Launch) (a1 : Int32) (a2 : Int32) (S : MS) (K : Int32 → MS → Prop) (hs : m_inWith a1 a2 S K) : mMeti l yX6_inWith cX6_inWith 3 6 123 S (fun ad => [.int a1, .int a2]) K := by
  intro D dT h ad sz
  refine mEnter (Qc := mQi D dT h ad K) (by decide) rfl (by rfl) ?_
  intro p e s m args below meth c A ls X hK hA hM hl
  have hx := X.1
  have hb := X.2.1
  have hts := X.2.2.2.2.1
  have hown := X.2.2.2.2.2.1
  have hl : lv_has ls 3 [(0, .ref h), (1, .int a1), (2, .int a2)] := hl
  unfold m_inWith at hs
  refine lv_aload_n hx hb dX6_inWith_0 rfl (lv_at hl 0 rfl) ?_
  refine lv_iload_n hx hb dX6_inWith_1 rfl (lv_at hl 1 rfl) ?_
  refine m_callv (rest := []) (av := fun ad => [.int a1]) X hK hA hM (met_puts l a1 _ _ hs) iX6_puts q1694 ⟨Nat.le_of_ble_eq_true rfl, Nat.le_of_ble_eq_true rfl⟩ rfl hl.1 rfl (Nat.le_of_ble_eq_true rfl) dX6_inWith_2 (fun S1 H locs hs hM => ?_)
  refine lv_aload_n hx hb dX6_inWith_5 rfl (lv_at hl 0 rfl) ?_
  refine lv_iload_n hx hb dX6_inWith_6 rfl (lv_at hl 2 rfl) ?_
  refine m_callv (rest := []) (av := fun ad => [.int a2]) X hK hA hM (met_putsIn l a2 _ _ hs) iX6_putsIn q1698 ⟨Nat.le_of_ble_eq_true rfl, Nat.le_of_ble_eq_true rfl⟩ rfl hl.1 rfl (Nat.le_of_ble_eq_true rfl) dX6_inWith_7 (fun S2 H locs hs hM => ?_)
  refine lv_aload_n hx hb dX6_inWith_10 rfl (lv_at hl 0 rfl) ?_
  refine m_calli (rest := []) (av := fun ad => []) X hK hA hM (met_in l  _ _ hs) iX6_in q1862 ⟨Nat.le_of_ble_eq_true rfl, Nat.le_of_ble_eq_true rfl⟩ rfl hl.1 rfl (Nat.le_of_ble_eq_true rfl) dX6_inWith_11 (fun r4 S3 H locs hs hM => ?_)
  exact m_reti X hK hM hs dX6_inWith_14
def m_bestSack_l4 (K : Int32 → MS → Prop) (a1 : Int32) : Nat → Int32 → Int32 → MS → Prop
  | 0, _, _, _ => False
  | n4_3 + 1, x1, x2, S3 => (if (S3.1 1) ≤ x2 then K x1 S3 else m_inWith a1 x2 S3 (fun r6 S5 => m_inWith a1 x1 S5 (fun r8 S7 => jn (fun (x9 : Int32) => m_bestSack_l4 K a1 n4_3 x9 (x2 + 1) S7) (fun k29_9 => (if r8 ≤ r6 then k29_9 x1 else k29_9 x2)))))
theorem m_bestSack_l4_s (K : Int32 → MS → Prop) (a1 : Int32) (n4_3 : Nat) (x1 : Int32) (x2 : Int32) (S3 : MS) : m_bestSack_l4 K a1 (n4_3 + 1) x1 x2 S3 = ((if (S3.1 1) ≤ x2 then K x1 S3 else m_inWith a1 x2 S3 (fun r6 S5 => m_inWith a1 x1 S5 (fun r8 S7 => jn (fun (x9 : Int32) => m_bestSack_l4 K a1 n4_3 x9 (x2 + 1) S7) (fun k29_9 => (if r8 ≤ r6 then k29_9 x1 else k29_9 x2)))))) := rfl
def m_bestSack (a1 : Int32) (S : MS) (K : Int32 → MS → Prop) : Prop := m_bestSack_l4 K a1 NF 0 1 S
theorem iX6_bestSack : mInf yX6_bestSack cX6_bestSack 4 (some .int) 1 := ⟨q1892, qs77, q1893, by decide +kernel⟩
set_option maxHeartbeats 4000000 in
theorem met_bestSack (l : Launch) (a1 : Int32) (S : MS) (K : Int32 → MS → Prop) (hs : m_bestSack a1 S K) : mMeti l yX6_bestSack cX6_bestSack 4 7 145 S (fun ad => [.int a1]) K := by
  intro D dT h ad sz
  refine mEnter (Qc := mQi D dT h ad K) (by decide) rfl (by rfl) ?_
  intro p e s m args below meth c A ls X hK hA hM hl
  have hx := X.1
  have hb := X.2.1
  have hts := X.2.2.2.2.1
  have hown := X.2.2.2.2.2.1
  have hl : lv_has ls 4 [(0, .ref h), (1, .int a1)] := hl
  unfold m_bestSack at hs
  refine lv_iconst (v := 0) hx hb dX6_bestSack_0 (by decide) ?_
  refine lv_istore_n (lv' := [(2, .int 0), (0, .ref h), (1, .int a1)]) hx hb dX6_bestSack_1 rfl hl (by decide) rfl (fun ls hl => ?_)
  refine lv_iconst (v := 1) hx hb dX6_bestSack_2 (by decide) ?_
  refine lv_istore_n (lv' := [(3, .int 1), (2, .int 0), (0, .ref h), (1, .int a1)]) hx hb dX6_bestSack_3 rfl hl (by decide) rfl (fun ls hl => ?_)
  have Lm_bestSack_l4 : ∀ (n4_3 : Nat) (x1 : Int32) (x2 : Int32) (S3 : MS) (H : Heap) (locs : List Loc) (ls : Array Slot), m_bestSack_l4 K a1 n4_3 x1 x2 S3 → mI D dT A s.heap h ad S3 H locs → lv_has ls 4 [(0, .ref h), (1, .int a1), (2, .int x1), (3, .int x2)] → W p l e (mRm 7 145) s m args below meth c H locs 0 0 (MQ below (mQi D dT h ad K A) args s 0 0 A) (F0 m 4 ls []) := by
    intro n4_3
    induction n4_3 with
    | zero =>
      intro x1 x2 S3 H locs ls hs
      exact False.elim hs
    | succ n4_3 ihm_bestSack_l4 =>
      intro x1 x2 S3 H locs ls hs hM hl
      rw [m_bestSack_l4_s] at hs
      refine lv_iload_n hx hb dX6_bestSack_4 rfl (lv_at hl 3 rfl) ?_
      refine lv_aload_n hx hb dX6_bestSack_5 rfl (lv_at hl 0 rfl) ?_
      refine m_geti (v := .int (S3.1 1)) X hK hM 1 q1477 rfl rfl rfl dX6_bestSack_6 ?_
      refine lv_icmp_ge (tgt := 35) hx hb dX6_bestSack_9 (by decide) (fun c10 => ?_) (fun c10 => ?_)
      · replace hs := ifp c10 hs
        refine lv_iload_n hx hb dX6_bestSack_35 rfl (lv_at hl 2 rfl) ?_
        exact m_reti X hK hM hs dX6_bestSack_36
      · replace hs := ifn c10 hs
        refine lv_aload_n hx hb dX6_bestSack_12 rfl (lv_at hl 0 rfl) ?_
        refine lv_iload_n hx hb dX6_bestSack_13 rfl (lv_at hl 1 rfl) ?_
        refine lv_iload_n hx hb dX6_bestSack_14 rfl (lv_at hl 3 rfl) ?_
        refine m_calli (rest := []) (av := fun ad => [.int a1, .int x2]) X hK hA hM (met_inWith l a1 x2 _ _ hs) iX6_inWith q1894 ⟨Nat.le_of_ble_eq_true rfl, Nat.le_of_ble_eq_true rfl⟩ rfl hl.1 rfl (Nat.le_of_ble_eq_true rfl) dX6_bestSack_15 (fun r6 S5 H locs hs hM => ?_)
        refine lv_aload_n hx hb dX6_bestSack_18 rfl (lv_at hl 0 rfl) ?_
        refine lv_iload_n hx hb dX6_bestSack_19 rfl (lv_at hl 1 rfl) ?_
        refine lv_iload_n hx hb dX6_bestSack_20 rfl (lv_at hl 2 rfl) ?_
        refine m_calli (rest := [.int r6]) (av := fun ad => [.int a1, .int x1]) X hK hA hM (met_inWith l a1 x1 _ _ hs) iX6_inWith q1894 ⟨Nat.le_of_ble_eq_true rfl, Nat.le_of_ble_eq_true rfl⟩ rfl hl.1 rfl (Nat.le_of_ble_eq_true rfl) dX6_bestSack_21 (fun r8 S7 H locs hs hM => ?_)
        obtain ⟨k29_9, hk29_9, hs⟩ := jn_ex hs
        have Ek29_9 : ∀ (x9 : Int32) (H : Heap) (locs : List Loc) (ls : Array Slot), k29_9 x9 → mI D dT A s.heap h ad S7 H locs → lv_has ls 4 [(0, .ref h), (1, .int a1), (2, .int x9), (3, .int x2)] → W p l e (mRm 7 145) s m args below meth c H locs 0 0 (MQ below (mQi D dT h ad K A) args s 0 0 A) (F0 m 29 ls []) := by
          intro x9 H locs ls hs hM hl
          rw [hk29_9] at hs
          refine lv_iinc (v := (x2 + 1)) (lv' := [(3, .int (x2 + 1)), (0, .ref h), (1, .int a1), (2, .int x9)]) hx hb dX6_bestSack_29 hl (k := 3) rfl (congrArg (fun z => x2 + z) (show Int32.ofInt (1) = 1 by decide)) (by decide) rfl (fun ls hl => ?_)
          refine lv_goto (tgt := 4) hx hb dX6_bestSack_32 (by decide) ?_
          exact ihm_bestSack_l4 _ _ _ _ _ _ hs hM (lv_sub hl [1, 2, 3, 0] rfl)
        refine lv_icmp_ge (tgt := 29) hx hb dX6_bestSack_24 (by decide) (fun c9 => ?_) (fun c9 => ?_)
        · replace hs := ifp c9 hs
          exact Ek29_9 _ _ _ _ hs hM hl
        · replace hs := ifn c9 hs
          refine lv_iload_n hx hb dX6_bestSack_27 rfl (lv_at hl 3 rfl) ?_
          refine lv_istore_n (lv' := [(2, .int x2), (0, .ref h), (1, .int a1), (3, .int x2)]) hx hb dX6_bestSack_28 rfl hl (by decide) rfl (fun ls hl => ?_)
          exact Ek29_9 _ _ _ _ hs hM (lv_sub hl [1, 2, 0, 3] rfl)
  exact Lm_bestSack_l4 NF _ _ _ _ _ _ hs hM (lv_sub hl [2, 3, 1, 0] rfl)
def m_inAs (a1 : Int32) (a2 : Int32) (S : MS) (K : Int32 → MS → Prop) : Prop := m_puts a1 S (fun S1 => m_in  (mset S1 35 a2) (fun r3 S2 => K r3 S2))
theorem iX6_inAs : mInf yX6_inAs cX6_inAs 3 (some .int) 2 := ⟨q1888, qs76, q1889, by decide +kernel⟩
set_option maxHeartbeats 4000000 in
theorem met_inAs (l : Launch) (a1 : Int32) (a2 : Int32) (S : MS) (K : Int32 → MS → Prop) (hs : m_inAs a1 a2 S K) : mMeti l yX6_inAs cX6_inAs 3 6 123 S (fun ad => [.int a1, .int a2]) K := by
  intro D dT h ad sz
  refine mEnter (Qc := mQi D dT h ad K) (by decide) rfl (by rfl) ?_
  intro p e s m args below meth c A ls X hK hA hM hl
  have hx := X.1
  have hb := X.2.1
  have hts := X.2.2.2.2.1
  have hown := X.2.2.2.2.2.1
  have hl : lv_has ls 3 [(0, .ref h), (1, .int a1), (2, .int a2)] := hl
  unfold m_inAs at hs
  refine lv_aload_n hx hb dX6_inAs_0 rfl (lv_at hl 0 rfl) ?_
  refine lv_iload_n hx hb dX6_inAs_1 rfl (lv_at hl 1 rfl) ?_
  refine m_callv (rest := []) (av := fun ad => [.int a1]) X hK hA hM (met_puts l a1 _ _ hs) iX6_puts q1694 ⟨Nat.le_of_ble_eq_true rfl, Nat.le_of_ble_eq_true rfl⟩ rfl hl.1 rfl (Nat.le_of_ble_eq_true rfl) dX6_inAs_2 (fun S1 H locs hs hM => ?_)
  refine lv_aload_n hx hb dX6_inAs_5 rfl (lv_at hl 0 rfl) ?_
  refine lv_iload_n hx hb dX6_inAs_6 rfl (lv_at hl 2 rfl) ?_
  refine m_puti X hK hM 35 q1511 rfl rfl rfl rfl rfl rfl dX6_inAs_7 (fun H locs hM => ?_)
  refine lv_aload_n hx hb dX6_inAs_10 rfl (lv_at hl 0 rfl) ?_
  refine m_calli (rest := []) (av := fun ad => []) X hK hA hM (met_in l  _ _ hs) iX6_in q1862 ⟨Nat.le_of_ble_eq_true rfl, Nat.le_of_ble_eq_true rfl⟩ rfl hl.1 rfl (Nat.le_of_ble_eq_true rfl) dX6_inAs_11 (fun r3 S2 H locs hs hM => ?_)
  exact m_reti X hK hM hs dX6_inAs_14
def m_how_l4 (K : Int32 → MS → Prop) (a1 : Int32) : Nat → Int32 → Int32 → MS → Prop
  | 0, _, _, _ => False
  | n4_3 + 1, x1, x2, S3 => (if 7 ≤ x2 then K x1 S3 else m_inAs a1 x2 S3 (fun r6 S5 => m_inAs a1 x1 S5 (fun r8 S7 => jn (fun (x9 : Int32) => m_how_l4 K a1 n4_3 x9 (x2 + 1) S7) (fun k27_9 => (if r8 ≤ r6 then k27_9 x1 else k27_9 x2)))))
theorem m_how_l4_s (K : Int32 → MS → Prop) (a1 : Int32) (n4_3 : Nat) (x1 : Int32) (x2 : Int32) (S3 : MS) : m_how_l4 K a1 (n4_3 + 1) x1 x2 S3 = ((if 7 ≤ x2 then K x1 S3 else m_inAs a1 x2 S3 (fun r6 S5 => m_inAs a1 x1 S5 (fun r8 S7 => jn (fun (x9 : Int32) => m_how_l4 K a1 n4_3 x9 (x2 + 1) S7) (fun k27_9 => (if r8 ≤ r6 then k27_9 x1 else k27_9 x2)))))) := rfl
def m_how (a1 : Int32) (S : MS) (K : Int32 → MS → Prop) : Prop := m_how_l4 K a1 NF 0 1 S
theorem iX6_how : mInf yX6_how cX6_how 4 (some .int) 1 := ⟨q1884, qs75, q1885, by decide +kernel⟩
set_option maxHeartbeats 4000000 in
theorem met_how (l : Launch) (a1 : Int32) (S : MS) (K : Int32 → MS → Prop) (hs : m_how a1 S K) : mMeti l yX6_how cX6_how 4 7 145 S (fun ad => [.int a1]) K := by
  intro D dT h ad sz
  refine mEnter (Qc := mQi D dT h ad K) (by decide) rfl (by rfl) ?_
  intro p e s m args below meth c A ls X hK hA hM hl
  have hx := X.1
  have hb := X.2.1
  have hts := X.2.2.2.2.1
  have hown := X.2.2.2.2.2.1
  have hl : lv_has ls 4 [(0, .ref h), (1, .int a1)] := hl
  unfold m_how at hs
  refine lv_iconst (v := 0) hx hb dX6_how_0 (by decide) ?_
  refine lv_istore_n (lv' := [(2, .int 0), (0, .ref h), (1, .int a1)]) hx hb dX6_how_1 rfl hl (by decide) rfl (fun ls hl => ?_)
  refine lv_iconst (v := 1) hx hb dX6_how_2 (by decide) ?_
  refine lv_istore_n (lv' := [(3, .int 1), (2, .int 0), (0, .ref h), (1, .int a1)]) hx hb dX6_how_3 rfl hl (by decide) rfl (fun ls hl => ?_)
  have Lm_how_l4 : ∀ (n4_3 : Nat) (x1 : Int32) (x2 : Int32) (S3 : MS) (H : Heap) (locs : List Loc) (ls : Array Slot), m_how_l4 K a1 n4_3 x1 x2 S3 → mI D dT A s.heap h ad S3 H locs → lv_has ls 4 [(0, .ref h), (1, .int a1), (2, .int x1), (3, .int x2)] → W p l e (mRm 7 145) s m args below meth c H locs 0 0 (MQ below (mQi D dT h ad K A) args s 0 0 A) (F0 m 4 ls []) := by
    intro n4_3
    induction n4_3 with
    | zero =>
      intro x1 x2 S3 H locs ls hs
      exact False.elim hs
    | succ n4_3 ihm_how_l4 =>
      intro x1 x2 S3 H locs ls hs hM hl
      rw [m_how_l4_s] at hs
      refine lv_iload_n hx hb dX6_how_4 rfl (lv_at hl 3 rfl) ?_
      refine lv_bipush (v := 7) hx hb dX6_how_5 (by decide) ?_
      refine lv_icmp_ge (tgt := 33) hx hb dX6_how_7 (by decide) (fun c10 => ?_) (fun c10 => ?_)
      · replace hs := ifp c10 hs
        refine lv_iload_n hx hb dX6_how_33 rfl (lv_at hl 2 rfl) ?_
        exact m_reti X hK hM hs dX6_how_34
      · replace hs := ifn c10 hs
        refine lv_aload_n hx hb dX6_how_10 rfl (lv_at hl 0 rfl) ?_
        refine lv_iload_n hx hb dX6_how_11 rfl (lv_at hl 1 rfl) ?_
        refine lv_iload_n hx hb dX6_how_12 rfl (lv_at hl 3 rfl) ?_
        refine m_calli (rest := []) (av := fun ad => [.int a1, .int x2]) X hK hA hM (met_inAs l a1 x2 _ _ hs) iX6_inAs q1886 ⟨Nat.le_of_ble_eq_true rfl, Nat.le_of_ble_eq_true rfl⟩ rfl hl.1 rfl (Nat.le_of_ble_eq_true rfl) dX6_how_13 (fun r6 S5 H locs hs hM => ?_)
        refine lv_aload_n hx hb dX6_how_16 rfl (lv_at hl 0 rfl) ?_
        refine lv_iload_n hx hb dX6_how_17 rfl (lv_at hl 1 rfl) ?_
        refine lv_iload_n hx hb dX6_how_18 rfl (lv_at hl 2 rfl) ?_
        refine m_calli (rest := [.int r6]) (av := fun ad => [.int a1, .int x1]) X hK hA hM (met_inAs l a1 x1 _ _ hs) iX6_inAs q1886 ⟨Nat.le_of_ble_eq_true rfl, Nat.le_of_ble_eq_true rfl⟩ rfl hl.1 rfl (Nat.le_of_ble_eq_true rfl) dX6_how_19 (fun r8 S7 H locs hs hM => ?_)
        obtain ⟨k27_9, hk27_9, hs⟩ := jn_ex hs
        have Ek27_9 : ∀ (x9 : Int32) (H : Heap) (locs : List Loc) (ls : Array Slot), k27_9 x9 → mI D dT A s.heap h ad S7 H locs → lv_has ls 4 [(0, .ref h), (1, .int a1), (2, .int x9), (3, .int x2)] → W p l e (mRm 7 145) s m args below meth c H locs 0 0 (MQ below (mQi D dT h ad K A) args s 0 0 A) (F0 m 27 ls []) := by
          intro x9 H locs ls hs hM hl
          rw [hk27_9] at hs
          refine lv_iinc (v := (x2 + 1)) (lv' := [(3, .int (x2 + 1)), (0, .ref h), (1, .int a1), (2, .int x9)]) hx hb dX6_how_27 hl (k := 3) rfl (congrArg (fun z => x2 + z) (show Int32.ofInt (1) = 1 by decide)) (by decide) rfl (fun ls hl => ?_)
          refine lv_goto (tgt := 4) hx hb dX6_how_30 (by decide) ?_
          exact ihm_how_l4 _ _ _ _ _ _ hs hM (lv_sub hl [1, 2, 3, 0] rfl)
        refine lv_icmp_ge (tgt := 27) hx hb dX6_how_22 (by decide) (fun c9 => ?_) (fun c9 => ?_)
        · replace hs := ifp c9 hs
          exact Ek27_9 _ _ _ _ hs hM hl
        · replace hs := ifn c9 hs
          refine lv_iload_n hx hb dX6_how_25 rfl (lv_at hl 3 rfl) ?_
          refine lv_istore_n (lv' := [(2, .int x2), (0, .ref h), (1, .int a1), (3, .int x2)]) hx hb dX6_how_26 rfl hl (by decide) rfl (fun ls hl => ?_)
          exact Ek27_9 _ _ _ _ hs hM (lv_sub hl [1, 2, 0, 3] rfl)
  exact Lm_how_l4 NF _ _ _ _ _ _ hs hM (lv_sub hl [2, 3, 1, 0] rfl)
def m_inRolling (a1 : Int32) (a2 : Int32) (S : MS) (K : Int32 → MS → Prop) : Prop := m_puts a1 S (fun S1 => m_in  (mset S1 41 a2) (fun r3 S2 => K r3 S2))
theorem iX6_inRolling : mInf yX6_inRolling cX6_inRolling 3 (some .int) 2 := ⟨q1900, qs79, q1901, by decide +kernel⟩
set_option maxHeartbeats 4000000 in
theorem met_inRolling (l : Launch) (a1 : Int32) (a2 : Int32) (S : MS) (K : Int32 → MS → Prop) (hs : m_inRolling a1 a2 S K) : mMeti l yX6_inRolling cX6_inRolling 3 6 123 S (fun ad => [.int a1, .int a2]) K := by
  intro D dT h ad sz
  refine mEnter (Qc := mQi D dT h ad K) (by decide) rfl (by rfl) ?_
  intro p e s m args below meth c A ls X hK hA hM hl
  have hx := X.1
  have hb := X.2.1
  have hts := X.2.2.2.2.1
  have hown := X.2.2.2.2.2.1
  have hl : lv_has ls 3 [(0, .ref h), (1, .int a1), (2, .int a2)] := hl
  unfold m_inRolling at hs
  refine lv_aload_n hx hb dX6_inRolling_0 rfl (lv_at hl 0 rfl) ?_
  refine lv_iload_n hx hb dX6_inRolling_1 rfl (lv_at hl 1 rfl) ?_
  refine m_callv (rest := []) (av := fun ad => [.int a1]) X hK hA hM (met_puts l a1 _ _ hs) iX6_puts q1694 ⟨Nat.le_of_ble_eq_true rfl, Nat.le_of_ble_eq_true rfl⟩ rfl hl.1 rfl (Nat.le_of_ble_eq_true rfl) dX6_inRolling_2 (fun S1 H locs hs hM => ?_)
  refine lv_aload_n hx hb dX6_inRolling_5 rfl (lv_at hl 0 rfl) ?_
  refine lv_iload_n hx hb dX6_inRolling_6 rfl (lv_at hl 2 rfl) ?_
  refine m_puti X hK hM 41 q1517 rfl rfl rfl rfl rfl rfl dX6_inRolling_7 (fun H locs hM => ?_)
  refine lv_aload_n hx hb dX6_inRolling_10 rfl (lv_at hl 0 rfl) ?_
  refine m_calli (rest := []) (av := fun ad => []) X hK hA hM (met_in l  _ _ hs) iX6_in q1862 ⟨Nat.le_of_ble_eq_true rfl, Nat.le_of_ble_eq_true rfl⟩ rfl hl.1 rfl (Nat.le_of_ble_eq_true rfl) dX6_inRolling_11 (fun r3 S2 H locs hs hM => ?_)
  exact m_reti X hK hM hs dX6_inRolling_14
def m_best (a1 : Int32) (a2 : Int32) (S : MS) (K : Int32 → MS → Prop) : Prop := m_isChild a1 S (fun r2 S1 => (if r2 = 0 then m_no (-1) S1 (fun r27 S26 => K r27 S26) else jn (m_no (-5) S1 (fun r4 S3 => K r4 S3)) (fun k35_2 => (if a2 < 0 then k35_2 else (if 3 < a2 then k35_2 else jn ((if a2 = 0 then m_how a1 S1 (fun r20 S19 => K r20 S19) else (if a2 = 2 then m_bestSack a1 S1 (fun r17 S16 => K r17 S16) else (if a2 = 1 then m_inAs a1 3 S1 (fun r11 S10 => m_inAs a1 5 S10 (fun r13 S12 => (if r13 ≤ r11 then K 0 S12 else K 1 S12))) else m_inRolling a1 1 S1 (fun r6 S5 => m_inRolling a1 0 S5 (fun r8 S7 => (if r8 ≤ r6 then K 0 S7 else K 1 S7))))))) (fun k42_4 => (if a2 = 2 then (if (S1.1 1) = 0 then k35_2 else k42_4) else k42_4)))))))
theorem iX6_best : mInf yX6_best cX6_best 3 (some .int) 2 := ⟨q1879, q1880, q1881, by decide +kernel⟩
set_option maxHeartbeats 4000000 in
theorem met_best (l : Launch) (a1 : Int32) (a2 : Int32) (S : MS) (K : Int32 → MS → Prop) (hs : m_best a1 a2 S K) : mMeti l yX6_best cX6_best 3 8 168 S (fun ad => [.int a1, .int a2]) K := by
  intro D dT h ad sz
  refine mEnter (Qc := mQi D dT h ad K) (by decide) rfl (by rfl) ?_
  intro p e s m args below meth c A ls X hK hA hM hl
  have hx := X.1
  have hb := X.2.1
  have hts := X.2.2.2.2.1
  have hown := X.2.2.2.2.2.1
  have hl : lv_has ls 3 [(0, .ref h), (1, .int a1), (2, .int a2)] := hl
  unfold m_best at hs
  refine lv_aload_n hx hb dX6_best_0 rfl (lv_at hl 0 rfl) ?_
  refine lv_iload_n hx hb dX6_best_1 rfl (lv_at hl 1 rfl) ?_
  refine m_callz (rest := []) (av := fun ad => [.int a1]) X hK hA hM (met_isChild l a1 _ _ hs) iX6_isChild q1682 ⟨Nat.le_of_ble_eq_true rfl, Nat.le_of_ble_eq_true rfl⟩ rfl hl.1 rfl (Nat.le_of_ble_eq_true rfl) dX6_best_2 (fun r2 S1 H locs br2 hs hM => ?_)
  refine lv_if_ne (tgt := 14) hx hb dX6_best_5 (by decide) (fun c27 => ?_) (fun c27 => ?_)
  · replace hs := ifn c27 hs
    refine lv_iload_n hx hb dX6_best_14 rfl (lv_at hl 2 rfl) ?_
    obtain ⟨k35_2, hk35_2, hs⟩ := jn_ex hs
    have Ek35_2 : ∀ (H : Heap) (locs : List Loc) (ls : Array Slot), k35_2 → mI D dT A s.heap h ad S1 H locs → lv_has ls 3 [(0, .ref h)] → W p l e (mRm 8 168) s m args below meth c H locs 0 0 (MQ below (mQi D dT h ad K A) args s 0 0 A) (F0 m 35 ls []) := by
      intro H locs ls hs hM hl
      rw [hk35_2] at hs
      refine lv_aload_n hx hb dX6_best_35 rfl (lv_at hl 0 rfl) ?_
      refine lv_bipush (v := (-5)) hx hb dX6_best_36 (by decide) ?_
      refine m_calli (rest := []) (av := fun ad => [.int (-5)]) X hK hA hM (met_no l (-5) _ _ hs) iX6_no q1662 ⟨Nat.le_of_ble_eq_true rfl, Nat.le_of_ble_eq_true rfl⟩ rfl hl.1 rfl (Nat.le_of_ble_eq_true rfl) dX6_best_38 (fun r4 S3 H locs hs hM => ?_)
      exact m_reti X hK hM hs dX6_best_41
    refine lv_if_lt (tgt := 35) hx hb dX6_best_15 (by decide) (fun c24 => ?_) (fun c24 => ?_)
    · replace hs := ifp c24 hs
      exact Ek35_2 _ _ _ hs hM (lv_sub hl [0] rfl)
    · replace hs := ifn c24 hs
      refine lv_iload_n hx hb dX6_best_18 rfl (lv_at hl 2 rfl) ?_
      refine lv_iconst (v := 3) hx hb dX6_best_19 (by decide) ?_
      refine lv_icmp_gt (tgt := 35) hx hb dX6_best_20 (by decide) (fun c23 => ?_) (fun c23 => ?_)
      · replace hs := ifp c23 hs
        exact Ek35_2 _ _ _ hs hM (lv_sub hl [0] rfl)
      · replace hs := ifn c23 hs
        refine lv_iload_n hx hb dX6_best_23 rfl (lv_at hl 2 rfl) ?_
        refine lv_iconst (v := 2) hx hb dX6_best_24 (by decide) ?_
        obtain ⟨k42_4, hk42_4, hs⟩ := jn_ex hs
        have Ek42_4 : ∀ (H : Heap) (locs : List Loc) (ls : Array Slot), k42_4 → mI D dT A s.heap h ad S1 H locs → lv_has ls 3 [(0, .ref h), (1, .int a1), (2, .int a2)] → W p l e (mRm 8 168) s m args below meth c H locs 0 0 (MQ below (mQi D dT h ad K A) args s 0 0 A) (F0 m 42 ls []) := by
          intro H locs ls hs hM hl
          rw [hk42_4] at hs
          refine lv_iload_n hx hb dX6_best_42 rfl (lv_at hl 2 rfl) ?_
          refine lv_if_ne (tgt := 52) hx hb dX6_best_43 (by decide) (fun c20 => ?_) (fun c20 => ?_)
          · replace hs := ifn c20 hs
            refine lv_iload_n hx hb dX6_best_52 rfl (lv_at hl 2 rfl) ?_
            refine lv_iconst (v := 2) hx hb dX6_best_53 (by decide) ?_
            refine lv_icmp_ne (tgt := 63) hx hb dX6_best_54 (by decide) (fun c17 => ?_) (fun c17 => ?_)
            · replace hs := ifn c17 hs
              refine lv_iload_n hx hb dX6_best_63 rfl (lv_at hl 2 rfl) ?_
              refine lv_iconst (v := 1) hx hb dX6_best_64 (by decide) ?_
              refine lv_icmp_ne (tgt := 89) hx hb dX6_best_65 (by decide) (fun c14 => ?_) (fun c14 => ?_)
              · replace hs := ifn c14 hs
                refine lv_aload_n hx hb dX6_best_89 rfl (lv_at hl 0 rfl) ?_
                refine lv_iload_n hx hb dX6_best_90 rfl (lv_at hl 1 rfl) ?_
                refine lv_iconst (v := 1) hx hb dX6_best_91 (by decide) ?_
                refine m_calli (rest := []) (av := fun ad => [.int a1, .int 1]) X hK hA hM (met_inRolling l a1 1 _ _ hs) iX6_inRolling q1898 ⟨Nat.le_of_ble_eq_true rfl, Nat.le_of_ble_eq_true rfl⟩ rfl hl.1 rfl (Nat.le_of_ble_eq_true rfl) dX6_best_92 (fun r6 S5 H locs hs hM => ?_)
                refine lv_aload_n hx hb dX6_best_95 rfl (lv_at hl 0 rfl) ?_
                refine lv_iload_n hx hb dX6_best_96 rfl (lv_at hl 1 rfl) ?_
                refine lv_iconst (v := 0) hx hb dX6_best_97 (by decide) ?_
                refine m_calli (rest := [.int r6]) (av := fun ad => [.int a1, .int 0]) X hK hA hM (met_inRolling l a1 0 _ _ hs) iX6_inRolling q1898 ⟨Nat.le_of_ble_eq_true rfl, Nat.le_of_ble_eq_true rfl⟩ rfl hl.1 rfl (Nat.le_of_ble_eq_true rfl) dX6_best_98 (fun r8 S7 H locs hs hM => ?_)
                refine lv_icmp_ge (tgt := 108) hx hb dX6_best_101 (by decide) (fun c8 => ?_) (fun c8 => ?_)
                · replace hs := ifp c8 hs
                  refine lv_iconst (v := 0) hx hb dX6_best_108 (by decide) ?_
                  exact m_reti X hK hM hs dX6_best_109
                · replace hs := ifn c8 hs
                  refine lv_iconst (v := 1) hx hb dX6_best_104 (by decide) ?_
                  refine lv_goto (tgt := 109) hx hb dX6_best_105 (by decide) ?_
                  exact m_reti X hK hM hs dX6_best_109
              · replace hs := ifp c14 hs
                refine lv_aload_n hx hb dX6_best_68 rfl (lv_at hl 0 rfl) ?_
                refine lv_iload_n hx hb dX6_best_69 rfl (lv_at hl 1 rfl) ?_
                refine lv_iconst (v := 3) hx hb dX6_best_70 (by decide) ?_
                refine m_calli (rest := []) (av := fun ad => [.int a1, .int 3]) X hK hA hM (met_inAs l a1 3 _ _ hs) iX6_inAs q1886 ⟨Nat.le_of_ble_eq_true rfl, Nat.le_of_ble_eq_true rfl⟩ rfl hl.1 rfl (Nat.le_of_ble_eq_true rfl) dX6_best_71 (fun r11 S10 H locs hs hM => ?_)
                refine lv_aload_n hx hb dX6_best_74 rfl (lv_at hl 0 rfl) ?_
                refine lv_iload_n hx hb dX6_best_75 rfl (lv_at hl 1 rfl) ?_
                refine lv_iconst (v := 5) hx hb dX6_best_76 (by decide) ?_
                refine m_calli (rest := [.int r11]) (av := fun ad => [.int a1, .int 5]) X hK hA hM (met_inAs l a1 5 _ _ hs) iX6_inAs q1886 ⟨Nat.le_of_ble_eq_true rfl, Nat.le_of_ble_eq_true rfl⟩ rfl hl.1 rfl (Nat.le_of_ble_eq_true rfl) dX6_best_77 (fun r13 S12 H locs hs hM => ?_)
                refine lv_icmp_ge (tgt := 87) hx hb dX6_best_80 (by decide) (fun c13 => ?_) (fun c13 => ?_)
                · replace hs := ifp c13 hs
                  refine lv_iconst (v := 0) hx hb dX6_best_87 (by decide) ?_
                  exact m_reti X hK hM hs dX6_best_88
                · replace hs := ifn c13 hs
                  refine lv_iconst (v := 1) hx hb dX6_best_83 (by decide) ?_
                  refine lv_goto (tgt := 88) hx hb dX6_best_84 (by decide) ?_
                  exact m_reti X hK hM hs dX6_best_88
            · replace hs := ifp c17 hs
              refine lv_aload_n hx hb dX6_best_57 rfl (lv_at hl 0 rfl) ?_
              refine lv_iload_n hx hb dX6_best_58 rfl (lv_at hl 1 rfl) ?_
              refine m_calli (rest := []) (av := fun ad => [.int a1]) X hK hA hM (met_bestSack l a1 _ _ hs) iX6_bestSack q1890 ⟨Nat.le_of_ble_eq_true rfl, Nat.le_of_ble_eq_true rfl⟩ rfl hl.1 rfl (Nat.le_of_ble_eq_true rfl) dX6_best_59 (fun r17 S16 H locs hs hM => ?_)
              exact m_reti X hK hM hs dX6_best_62
          · replace hs := ifp c20 hs
            refine lv_aload_n hx hb dX6_best_46 rfl (lv_at hl 0 rfl) ?_
            refine lv_iload_n hx hb dX6_best_47 rfl (lv_at hl 1 rfl) ?_
            refine m_calli (rest := []) (av := fun ad => [.int a1]) X hK hA hM (met_how l a1 _ _ hs) iX6_how q1882 ⟨Nat.le_of_ble_eq_true rfl, Nat.le_of_ble_eq_true rfl⟩ rfl hl.1 rfl (Nat.le_of_ble_eq_true rfl) dX6_best_48 (fun r20 S19 H locs hs hM => ?_)
            exact m_reti X hK hM hs dX6_best_51
        refine lv_icmp_ne (tgt := 42) hx hb dX6_best_25 (by decide) (fun c22 => ?_) (fun c22 => ?_)
        · replace hs := ifn c22 hs
          exact Ek42_4 _ _ _ hs hM hl
        · replace hs := ifp c22 hs
          refine lv_aload_n hx hb dX6_best_28 rfl (lv_at hl 0 rfl) ?_
          refine m_geti (v := .int (S1.1 1)) X hK hM 1 q1477 rfl rfl rfl dX6_best_29 ?_
          refine lv_if_ne (tgt := 42) hx hb dX6_best_32 (by decide) (fun c21 => ?_) (fun c21 => ?_)
          · replace hs := ifn c21 hs
            exact Ek42_4 _ _ _ hs hM hl
          · replace hs := ifp c21 hs
            exact Ek35_2 _ _ _ hs hM (lv_sub hl [0] rfl)
  · replace hs := ifp c27 hs
    refine lv_aload_n hx hb dX6_best_8 rfl (lv_at hl 0 rfl) ?_
    refine lv_iconst (v := (-1)) hx hb dX6_best_9 (by decide) ?_
    refine m_calli (rest := []) (av := fun ad => [.int (-1)]) X hK hA hM (met_no l (-1) _ _ hs) iX6_no q1662 ⟨Nat.le_of_ble_eq_true rfl, Nat.le_of_ble_eq_true rfl⟩ rfl hl.1 rfl (Nat.le_of_ble_eq_true rfl) dX6_best_10 (fun r27 S26 H locs hs hM => ?_)
    exact m_reti X hK hM hs dX6_best_13
def m_gives_l88 (K : MS → Prop) (a1 : Int32) (a2 : Int32) (a3 : Int32) (a4 : Int32) (a5 : Int32) (a6 : Int32) (a7 : Int32) (mG : Int32 → Int32 → Int32 → Int32 → Int32 → Int32 → Int32 → MS → (MS → Prop) → Prop) : Nat → Int32 → MS → Prop
  | 0, _, _ => False
  | n88_2 + 1, x1, S2 => (if (S2.1 1) ≤ x1 then K S2 else jn (fun (S4 : MS) => m_gives_l88 K a1 a2 a3 a4 a5 a6 a7 mG n88_2 (x1 + 1) S4) (fun k182_4 => (if ((a4 >>> (x1 &&& 31)) &&& 1) = 1 then k182_4 S2 else obd (mald S2 47 ((8 * a2) + x1)) (fun v5 => obd (mast S2 48 a2 x1) (fun S6 => jn (fun (v7 : Int32) => jn (fun (v8 : Int32) => mG a1 (a2 + 1) a3 (a4 ||| (1 <<< (x1 &&& 31))) (a5 + v5) v7 v8 S6 (fun S9 => k182_4 S9)) (fun k179_8 => (if a7 ≤ v5 then k179_8 a7 else k179_8 v5))) (fun k165_7 => (if v5 ≤ a6 then k165_7 a6 else k165_7 v5)))))))
theorem m_gives_l88_s (K : MS → Prop) (a1 : Int32) (a2 : Int32) (a3 : Int32) (a4 : Int32) (a5 : Int32) (a6 : Int32) (a7 : Int32) (mG : Int32 → Int32 → Int32 → Int32 → Int32 → Int32 → Int32 → MS → (MS → Prop) → Prop) (n88_2 : Nat) (x1 : Int32) (S2 : MS) : m_gives_l88 K a1 a2 a3 a4 a5 a6 a7 mG (n88_2 + 1) x1 S2 = ((if (S2.1 1) ≤ x1 then K S2 else jn (fun (S4 : MS) => m_gives_l88 K a1 a2 a3 a4 a5 a6 a7 mG n88_2 (x1 + 1) S4) (fun k182_4 => (if ((a4 >>> (x1 &&& 31)) &&& 1) = 1 then k182_4 S2 else obd (mald S2 47 ((8 * a2) + x1)) (fun v5 => obd (mast S2 48 a2 x1) (fun S6 => jn (fun (v7 : Int32) => jn (fun (v8 : Int32) => mG a1 (a2 + 1) a3 (a4 ||| (1 <<< (x1 &&& 31))) (a5 + v5) v7 v8 S6 (fun S9 => k182_4 S9)) (fun k179_8 => (if a7 ≤ v5 then k179_8 a7 else k179_8 v5))) (fun k165_7 => (if v5 ≤ a6 then k165_7 a6 else k165_7 v5)))))))) := rfl
def m_gives_l58 (K : MS → Prop) (a3 : Int32) : Nat → Int32 → MS → Prop
  | 0, _, _ => False
  | n58_16 + 1, x15, S16 => (if a3 ≤ x15 then K S16 else obd (mald S16 48 x15) (fun v18 => obd (mast S16 49 x15 v18) (fun S19 => m_gives_l58 K a3 n58_16 (x15 + 1) S19)))
theorem m_gives_l58_s (K : MS → Prop) (a3 : Int32) (n58_16 : Nat) (x15 : Int32) (S16 : MS) : m_gives_l58 K a3 (n58_16 + 1) x15 S16 = ((if a3 ≤ x15 then K S16 else obd (mald S16 48 x15) (fun v18 => obd (mast S16 49 x15 v18) (fun S19 => m_gives_l58 K a3 n58_16 (x15 + 1) S19)))) := rfl
def m_gives : Nat → Int32 → Int32 → Int32 → Int32 → Int32 → Int32 → Int32 → MS → (MS → Prop) → Prop
  | 0, _, _, _, _, _, _, _, _, _ => False
  | n + 1, a1, a2, a3, a4, a5, a6, a7, S, K => jn (m_gives n) (fun mG => (if a2 = a3 then jn (fun (v14 : Int32) => jn (m_gives_l58 K a3 NF 0 (mset S 50 v14)) (fun k49_14 => (if (S.1 50) = (-1) then k49_14 else (if v14 < (S.1 50) then k49_14 else K S)))) (fun k29_14 => (if a1 = 0 then k29_14 a5 else (if a1 = 1 then k29_14 a6 else k29_14 (a6 - a7)))) else m_gives_l88 K a1 a2 a3 a4 a5 a6 a7 mG NF 0 S))
theorem m_gives_s (n : Nat) (a1 : Int32) (a2 : Int32) (a3 : Int32) (a4 : Int32) (a5 : Int32) (a6 : Int32) (a7 : Int32) (S : MS) (K : MS → Prop) : m_gives (n + 1) a1 a2 a3 a4 a5 a6 a7 S K = (jn (m_gives n) (fun mG => (if a2 = a3 then jn (fun (v14 : Int32) => jn (m_gives_l58 K a3 NF 0 (mset S 50 v14)) (fun k49_14 => (if (S.1 50) = (-1) then k49_14 else (if v14 < (S.1 50) then k49_14 else K S)))) (fun k29_14 => (if a1 = 0 then k29_14 a5 else (if a1 = 1 then k29_14 a6 else k29_14 (a6 - a7)))) else m_gives_l88 K a1 a2 a3 a4 a5 a6 a7 mG NF 0 S))) := rfl
theorem iX6_gives : mInf yX6_gives cX6_gives 10 none 7 := ⟨q1908, qs80, q1909, by decide +kernel⟩
set_option maxHeartbeats 4000000 in
theorem met_gives (l : Launch) : ∀ (n : Nat) (a1 : Int32) (a2 : Int32) (a3 : Int32) (a4 : Int32) (a5 : Int32) (a6 : Int32) (a7 : Int32) (S : MS) (K : MS → Prop) (hs : m_gives n a1 a2 a3 a4 a5 a6 a7 S K), mMetv l yX6_gives cX6_gives 10 n (60 * n) S (fun ad => [.int a1, .int a2, .int a3, .int a4, .int a5, .int a6, .int a7]) K := by
  intro n
  induction n with
  | zero =>
    intro a1 a2 a3 a4 a5 a6 a7 S K hs
    exact False.elim hs
  | succ n ih =>
    intro a1 a2 a3 a4 a5 a6 a7 S K hs
    intro D dT h ad sz
    refine mEnter (Qc := mQv D dT h ad K) (by decide) rfl (by rfl) ?_
    intro p e s m args below meth c A ls X hK hA hM hl
    have hx := X.1
    have hb := X.2.1
    have hts := X.2.2.2.2.1
    have hown := X.2.2.2.2.2.1
    have hl : lv_has ls 10 [(0, .ref h), (1, .int a1), (2, .int a2), (3, .int a3), (4, .int a4), (5, .int a5), (6, .int a6), (7, .int a7)] := hl
    rw [m_gives_s] at hs
    obtain ⟨mG, hmG, hs⟩ := jn_ex hs
    have ih : ∀ (a1 : Int32) (a2 : Int32) (a3 : Int32) (a4 : Int32) (a5 : Int32) (a6 : Int32) (a7 : Int32) (S : MS) (K : MS → Prop), mG a1 a2 a3 a4 a5 a6 a7 S K → mMetv l yX6_gives cX6_gives 10 n (60 * n) S (fun ad => [.int a1, .int a2, .int a3, .int a4, .int a5, .int a6, .int a7]) K := by rw [hmG]; exact ih
    refine lv_iload_n hx hb dX6_gives_0 rfl (lv_at hl 2 rfl) ?_
    refine lv_iload_n hx hb dX6_gives_1 rfl (lv_at hl 3 rfl) ?_
    refine lv_icmp_ne (tgt := 85) hx hb dX6_gives_2 (by decide) (fun c24 => ?_) (fun c24 => ?_)
    · replace hs := ifn c24 hs
      refine lv_iconst (v := 0) hx hb dX6_gives_85 (by decide) ?_
      refine lv_istore (lv' := [(8, .int 0), (0, .ref h), (1, .int a1), (2, .int a2), (3, .int a3), (4, .int a4), (5, .int a5), (6, .int a6), (7, .int a7)]) hx hb dX6_gives_86 hl (by decide) rfl (fun ls hl => ?_)
      have Lm_gives_l88 : ∀ (n88_2 : Nat) (x1 : Int32) (S2 : MS) (H : Heap) (locs : List Loc) (ls : Array Slot), m_gives_l88 K a1 a2 a3 a4 a5 a6 a7 mG n88_2 x1 S2 → mI D dT A s.heap h ad S2 H locs → lv_has ls 10 [(0, .ref h), (1, .int a1), (2, .int a2), (3, .int a3), (4, .int a4), (5, .int a5), (6, .int a6), (7, .int a7), (8, .int x1)] → W p l e (mRm (n + 1) (60 * (n + 1))) s m args below meth c H locs 0 0 (MQ below (mQv D dT h ad K A) args s 0 0 A) (F0 m 88 ls []) := by
        intro n88_2
        induction n88_2 with
        | zero =>
          intro x1 S2 H locs ls hs
          exact False.elim hs
        | succ n88_2 ihm_gives_l88 =>
          intro x1 S2 H locs ls hs hM hl
          rw [m_gives_l88_s] at hs
          refine lv_iload hx hb dX6_gives_88 (lv_at hl 8 rfl) ?_
          refine lv_aload_n hx hb dX6_gives_90 rfl (lv_at hl 0 rfl) ?_
          refine m_geti (v := .int (S2.1 1)) X hK hM 1 q1477 rfl rfl rfl dX6_gives_91 ?_
          refine lv_icmp_ge (tgt := 188) hx hb dX6_gives_94 (by decide) (fun c12 => ?_) (fun c12 => ?_)
          · replace hs := ifp c12 hs
            exact m_retv X hK hM hs dX6_gives_188
          · replace hs := ifn c12 hs
            refine lv_iload hx hb dX6_gives_97 (lv_at hl 4 rfl) ?_
            refine lv_iload hx hb dX6_gives_99 (lv_at hl 8 rfl) ?_
            refine lv_ishr hx hb dX6_gives_101 ?_
            refine lv_iconst (v := 1) hx hb dX6_gives_102 (by decide) ?_
            refine lv_iand hx hb dX6_gives_103 ?_
            refine lv_iconst (v := 1) hx hb dX6_gives_104 (by decide) ?_
            obtain ⟨k182_4, hk182_4, hs⟩ := jn_ex hs
            have Ek182_4 : ∀ (S4 : MS) (H : Heap) (locs : List Loc) (ls : Array Slot), k182_4 S4 → mI D dT A s.heap h ad S4 H locs → lv_has ls 10 [(0, .ref h), (1, .int a1), (2, .int a2), (3, .int a3), (4, .int a4), (5, .int a5), (6, .int a6), (7, .int a7), (8, .int x1)] → W p l e (mRm (n + 1) (60 * (n + 1))) s m args below meth c H locs 0 0 (MQ below (mQv D dT h ad K A) args s 0 0 A) (F0 m 182 ls []) := by
              intro S4 H locs ls hs hM hl
              rw [hk182_4] at hs
              refine lv_iinc (v := (x1 + 1)) (lv' := [(8, .int (x1 + 1)), (0, .ref h), (1, .int a1), (2, .int a2), (3, .int a3), (4, .int a4), (5, .int a5), (6, .int a6), (7, .int a7)]) hx hb dX6_gives_182 hl (k := 8) rfl (congrArg (fun z => x1 + z) (show Int32.ofInt (1) = 1 by decide)) (by decide) rfl (fun ls hl => ?_)
              refine lv_goto (tgt := 88) hx hb dX6_gives_185 (by decide) ?_
              exact ihm_gives_l88 _ _ _ _ _ hs hM (lv_sub hl [1, 2, 3, 4, 5, 6, 7, 8, 0] rfl)
            refine lv_icmp_ne (tgt := 111) hx hb dX6_gives_105 (by decide) (fun c11 => ?_) (fun c11 => ?_)
            · replace hs := ifn c11 hs
              refine lv_aload_n hx hb dX6_gives_111 rfl (lv_at hl 0 rfl) ?_
              refine m_geti (v := .ref (ad 47)) X hK hM 47 q1523 rfl rfl rfl dX6_gives_112 ?_
              refine lv_bipush (v := 8) hx hb dX6_gives_115 (by decide) ?_
              refine lv_iload_n hx hb dX6_gives_117 rfl (lv_at hl 2 rfl) ?_
              refine lv_imul hx hb dX6_gives_118 ?_
              refine lv_iload hx hb dX6_gives_119 (lv_at hl 8 rfl) ?_
              refine lv_iadd hx hb dX6_gives_121 ?_
              obtain ⟨v5, ev5, hs⟩ := hs
              refine m_iald X hK hM rfl ev5 dX6_gives_122 ?_
              refine lv_istore (lv' := [(9, .int v5), (0, .ref h), (1, .int a1), (2, .int a2), (3, .int a3), (4, .int a4), (5, .int a5), (6, .int a6), (7, .int a7), (8, .int x1)]) hx hb dX6_gives_123 hl (by decide) rfl (fun ls hl => ?_)
              refine lv_aload_n hx hb dX6_gives_125 rfl (lv_at hl 1 rfl) ?_
              refine m_geti (v := .ref (ad 48)) X hK hM 48 q1524 rfl rfl rfl dX6_gives_126 ?_
              refine lv_iload_n hx hb dX6_gives_129 rfl (lv_at hl 3 rfl) ?_
              refine lv_iload hx hb dX6_gives_130 (lv_at hl 9 rfl) ?_
              obtain ⟨S6, eS6, hs⟩ := hs
              refine m_iast X hK hM rfl eS6 dX6_gives_132 (fun H locs hM => ?_)
              refine lv_aload_n hx hb dX6_gives_133 rfl (lv_at hl 1 rfl) ?_
              refine lv_iload_n hx hb dX6_gives_134 rfl (lv_at hl 2 rfl) ?_
              refine lv_iload_n hx hb dX6_gives_135 rfl (lv_at hl 3 rfl) ?_
              refine lv_iconst (v := 1) hx hb dX6_gives_136 (by decide) ?_
              refine lv_iadd hx hb dX6_gives_137 ?_
              refine lv_iload_n hx hb dX6_gives_138 rfl (lv_at hl 4 rfl) ?_
              refine lv_iload hx hb dX6_gives_139 (lv_at hl 5 rfl) ?_
              refine lv_iconst (v := 1) hx hb dX6_gives_141 (by decide) ?_
              refine lv_iload hx hb dX6_gives_142 (lv_at hl 9 rfl) ?_
              refine lv_ishl hx hb dX6_gives_144 ?_
              refine lv_ior hx hb dX6_gives_145 ?_
              refine lv_iload hx hb dX6_gives_146 (lv_at hl 6 rfl) ?_
              refine lv_iload hx hb dX6_gives_148 (lv_at hl 0 rfl) ?_
              refine lv_iadd hx hb dX6_gives_150 ?_
              refine lv_iload hx hb dX6_gives_151 (lv_at hl 0 rfl) ?_
              refine lv_iload hx hb dX6_gives_153 (lv_at hl 7 rfl) ?_
              obtain ⟨k165_7, hk165_7, hs⟩ := jn_ex hs
              have Ek165_7 : ∀ (v7 : Int32) (H : Heap) (locs : List Loc) (ls : Array Slot), k165_7 v7 → mI D dT A s.heap h ad S6 H locs → lv_has ls 10 [(0, .ref h), (1, .int a1), (2, .int a2), (3, .int a3), (4, .int a4), (5, .int a5), (6, .int a6), (7, .int a7), (8, .int x1), (9, .int v5)] → W p l e (mRm (n + 1) (60 * (n + 1))) s m args below meth c H locs 0 0 (MQ below (mQv D dT h ad K A) args s 0 0 A) (F0 m 165 ls [.int v7, .int (a5 + v5), .int (a4 ||| (1 <<< (x1 &&& 31))), .int a3, .int (a2 + 1), .int a1, .ref h]) := by
                intro v7 H locs ls hs hM hl
                rw [hk165_7] at hs
                refine lv_iload hx hb dX6_gives_165 (lv_at hl 9 rfl) ?_
                refine lv_iload hx hb dX6_gives_167 (lv_at hl 7 rfl) ?_
                obtain ⟨k179_8, hk179_8, hs⟩ := jn_ex hs
                have Ek179_8 : ∀ (v8 : Int32) (H : Heap) (locs : List Loc) (ls : Array Slot), k179_8 v8 → mI D dT A s.heap h ad S6 H locs → lv_has ls 10 [(0, .ref h), (1, .int a1), (2, .int a2), (3, .int a3), (4, .int a4), (5, .int a5), (6, .int a6), (7, .int a7), (8, .int x1)] → W p l e (mRm (n + 1) (60 * (n + 1))) s m args below meth c H locs 0 0 (MQ below (mQv D dT h ad K A) args s 0 0 A) (F0 m 179 ls [.int v8, .int v7, .int (a5 + v5), .int (a4 ||| (1 <<< (x1 &&& 31))), .int a3, .int (a2 + 1), .int a1, .ref h]) := by
                  intro v8 H locs ls hs hM hl
                  rw [hk179_8] at hs
                  refine m_callv (rest := []) (av := fun ad => [.int a1, .int (a2 + 1), .int a3, .int (a4 ||| (1 <<< (x1 &&& 31))), .int (a5 + v5), .int v7, .int v8]) X hK hA hM (ih a1 (a2 + 1) a3 (a4 ||| (1 <<< (x1 &&& 31))) (a5 + v5) v7 v8 _ _ hs) iX6_gives q1906 ⟨Nat.le_refl _, by omega⟩ rfl hl.1 rfl (Nat.le_of_ble_eq_true rfl) dX6_gives_179 (fun S9 H locs hs hM => ?_)
                  exact Ek182_4 _ _ _ _ hs hM hl
                refine lv_icmp_ge (tgt := 177) hx hb dX6_gives_169 (by decide) (fun c9 => ?_) (fun c9 => ?_)
                · replace hs := ifp c9 hs
                  refine lv_iload hx hb dX6_gives_177 (lv_at hl 7 rfl) ?_
                  exact Ek179_8 _ _ _ _ hs hM (lv_sub hl [0, 1, 2, 3, 4, 5, 6, 7, 8] rfl)
                · replace hs := ifn c9 hs
                  refine lv_iload hx hb dX6_gives_172 (lv_at hl 9 rfl) ?_
                  refine lv_goto (tgt := 179) hx hb dX6_gives_174 (by decide) ?_
                  exact Ek179_8 _ _ _ _ hs hM (lv_sub hl [0, 1, 2, 3, 4, 5, 6, 7, 8] rfl)
              refine lv_icmp_le (tgt := 163) hx hb dX6_gives_155 (by decide) (fun c10 => ?_) (fun c10 => ?_)
              · replace hs := ifp c10 hs
                refine lv_iload hx hb dX6_gives_163 (lv_at hl 7 rfl) ?_
                exact Ek165_7 _ _ _ _ hs hM (lv_sub hl [1, 2, 3, 4, 5, 6, 7, 8, 9, 0] rfl)
              · replace hs := ifn c10 hs
                refine lv_iload hx hb dX6_gives_158 (lv_at hl 0 rfl) ?_
                refine lv_goto (tgt := 165) hx hb dX6_gives_160 (by decide) ?_
                exact Ek165_7 _ _ _ _ hs hM (lv_sub hl [1, 2, 3, 4, 5, 6, 7, 8, 9, 0] rfl)
            · replace hs := ifp c11 hs
              refine lv_goto (tgt := 182) hx hb dX6_gives_108 (by decide) ?_
              exact Ek182_4 _ _ _ _ hs hM hl
      exact Lm_gives_l88 NF _ _ _ _ _ hs hM (lv_sub hl [1, 2, 3, 4, 5, 6, 7, 8, 0] rfl)
    · replace hs := ifp c24 hs
      refine lv_iload_n hx hb dX6_gives_5 rfl (lv_at hl 1 rfl) ?_
      obtain ⟨k29_14, hk29_14, hs⟩ := jn_ex hs
      have Ek29_14 : ∀ (v14 : Int32) (H : Heap) (locs : List Loc) (ls : Array Slot), k29_14 v14 → mI D dT A s.heap h ad S H locs → lv_has ls 10 [(0, .ref h), (3, .int a3)] → W p l e (mRm (n + 1) (60 * (n + 1))) s m args below meth c H locs 0 0 (MQ below (mQv D dT h ad K A) args s 0 0 A) (F0 m 29 ls [.int v14]) := by
        intro v14 H locs ls hs hM hl
        rw [hk29_14] at hs
        refine lv_istore (lv' := [(8, .int v14), (0, .ref h), (3, .int a3)]) hx hb dX6_gives_29 hl (by decide) rfl (fun ls hl => ?_)
        refine lv_aload_n hx hb dX6_gives_31 rfl (lv_at hl 1 rfl) ?_
        refine m_geti (v := .int (S.1 50)) X hK hM 50 q1526 rfl rfl rfl dX6_gives_32 ?_
        refine lv_iconst (v := (-1)) hx hb dX6_gives_35 (by decide) ?_
        obtain ⟨k49_14, hk49_14, hs⟩ := jn_ex hs
        have Ek49_14 : ∀ (H : Heap) (locs : List Loc) (ls : Array Slot), k49_14 → mI D dT A s.heap h ad S H locs → lv_has ls 10 [(0, .ref h), (3, .int a3), (8, .int v14)] → W p l e (mRm (n + 1) (60 * (n + 1))) s m args below meth c H locs 0 0 (MQ below (mQv D dT h ad K A) args s 0 0 A) (F0 m 49 ls []) := by
          intro H locs ls hs hM hl
          rw [hk49_14] at hs
          refine lv_aload_n hx hb dX6_gives_49 rfl (lv_at hl 0 rfl) ?_
          refine lv_iload hx hb dX6_gives_50 (lv_at hl 2 rfl) ?_
          refine m_puti X hK hM 50 q1526 rfl rfl rfl rfl rfl rfl dX6_gives_52 (fun H locs hM => ?_)
          refine lv_iconst (v := 0) hx hb dX6_gives_55 (by decide) ?_
          refine lv_istore (lv' := [(9, .int 0), (0, .ref h), (3, .int a3), (8, .int v14)]) hx hb dX6_gives_56 hl (by decide) rfl (fun ls hl => ?_)
          have Lm_gives_l58 : ∀ (n58_16 : Nat) (x15 : Int32) (S16 : MS) (H : Heap) (locs : List Loc) (ls : Array Slot), m_gives_l58 K a3 n58_16 x15 S16 → mI D dT A s.heap h ad S16 H locs → lv_has ls 10 [(0, .ref h), (3, .int a3), (9, .int x15)] → W p l e (mRm (n + 1) (60 * (n + 1))) s m args below meth c H locs 0 0 (MQ below (mQv D dT h ad K A) args s 0 0 A) (F0 m 58 ls []) := by
            intro n58_16
            induction n58_16 with
            | zero =>
              intro x15 S16 H locs ls hs
              exact False.elim hs
            | succ n58_16 ihm_gives_l58 =>
              intro x15 S16 H locs ls hs hM hl
              rw [m_gives_l58_s] at hs
              refine lv_iload hx hb dX6_gives_58 (lv_at hl 2 rfl) ?_
              refine lv_iload_n hx hb dX6_gives_60 rfl (lv_at hl 1 rfl) ?_
              refine lv_icmp_ge (tgt := 84) hx hb dX6_gives_61 (by decide) (fun c19 => ?_) (fun c19 => ?_)
              · replace hs := ifp c19 hs
                exact m_retv X hK hM hs dX6_gives_84
              · replace hs := ifn c19 hs
                refine lv_aload_n hx hb dX6_gives_64 rfl (lv_at hl 0 rfl) ?_
                refine m_geti (v := .ref (ad 49)) X hK hM 49 q1525 rfl rfl rfl dX6_gives_65 ?_
                refine lv_iload hx hb dX6_gives_68 (lv_at hl 2 rfl) ?_
                refine lv_aload_n hx hb dX6_gives_70 rfl (lv_at hl 0 rfl) ?_
                refine m_geti (v := .ref (ad 48)) X hK hM 48 q1524 rfl rfl rfl dX6_gives_71 ?_
                refine lv_iload hx hb dX6_gives_74 (lv_at hl 2 rfl) ?_
                obtain ⟨v18, ev18, hs⟩ := hs
                refine m_iald X hK hM rfl ev18 dX6_gives_76 ?_
                obtain ⟨S19, eS19, hs⟩ := hs
                refine m_iast X hK hM rfl eS19 dX6_gives_77 (fun H locs hM => ?_)
                refine lv_iinc (v := (x15 + 1)) (lv' := [(9, .int (x15 + 1)), (0, .ref h), (3, .int a3)]) hx hb dX6_gives_78 hl (k := 2) rfl (congrArg (fun z => x15 + z) (show Int32.ofInt (1) = 1 by decide)) (by decide) rfl (fun ls hl => ?_)
                refine lv_goto (tgt := 58) hx hb dX6_gives_81 (by decide) ?_
                exact ihm_gives_l58 _ _ _ _ _ hs hM (lv_sub hl [1, 2, 0] rfl)
          exact Lm_gives_l58 NF _ _ _ _ _ hs hM (lv_sub hl [1, 2, 0] rfl)
        refine lv_icmp_eq (tgt := 49) hx hb dX6_gives_36 (by decide) (fun c21 => ?_) (fun c21 => ?_)
        · replace hs := ifp c21 hs
          exact Ek49_14 _ _ _ hs hM (lv_sub hl [1, 2, 0] rfl)
        · replace hs := ifn c21 hs
          refine lv_iload hx hb dX6_gives_39 (lv_at hl 0 rfl) ?_
          refine lv_aload_n hx hb dX6_gives_41 rfl (lv_at hl 1 rfl) ?_
          refine m_geti (v := .int (S.1 50)) X hK hM 50 q1526 rfl rfl rfl dX6_gives_42 ?_
          refine lv_icmp_lt (tgt := 49) hx hb dX6_gives_45 (by decide) (fun c20 => ?_) (fun c20 => ?_)
          · replace hs := ifp c20 hs
            exact Ek49_14 _ _ _ hs hM (lv_sub hl [1, 2, 0] rfl)
          · replace hs := ifn c20 hs
            exact m_retv X hK hM hs dX6_gives_48
      refine lv_if_ne (tgt := 14) hx hb dX6_gives_6 (by decide) (fun c23 => ?_) (fun c23 => ?_)
      · replace hs := ifn c23 hs
        refine lv_iload_n hx hb dX6_gives_14 rfl (lv_at hl 1 rfl) ?_
        refine lv_iconst (v := 1) hx hb dX6_gives_15 (by decide) ?_
        refine lv_icmp_ne (tgt := 24) hx hb dX6_gives_16 (by decide) (fun c22 => ?_) (fun c22 => ?_)
        · replace hs := ifn c22 hs
          refine lv_iload hx hb dX6_gives_24 (lv_at hl 6 rfl) ?_
          refine lv_iload hx hb dX6_gives_26 (lv_at hl 7 rfl) ?_
          refine lv_isub hx hb dX6_gives_28 ?_
          exact Ek29_14 _ _ _ _ hs hM (lv_sub hl [0, 3] rfl)
        · replace hs := ifp c22 hs
          refine lv_iload hx hb dX6_gives_19 (lv_at hl 6 rfl) ?_
          refine lv_goto (tgt := 29) hx hb dX6_gives_21 (by decide) ?_
          exact Ek29_14 _ _ _ _ hs hM (lv_sub hl [0, 3] rfl)
      · replace hs := ifp c23 hs
        refine lv_iload hx hb dX6_gives_9 (lv_at hl 5 rfl) ?_
        refine lv_goto (tgt := 29) hx hb dX6_gives_11 (by decide) ?_
        exact Ek29_14 _ _ _ _ hs hM (lv_sub hl [0, 3] rfl)
