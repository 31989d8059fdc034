set_option maxRecDepth 100000
def m_race (S : MS) (K : Int32 → MS → Prop) : Prop := (if (S.1 0) = 0 then m_noTen (-5) S (fun r4 S3 => K r4 S3) else m_raced  S (fun r2 S1 => K r2 S1))
theorem iX6_race : mInf yX6_race cX6_race 1 (some .int) 0 := ⟨q1971, q1972, q1973, by decide +kernel⟩
set_option maxHeartbeats 4000000 in
theorem met_race (l : Launch)  (S : MS) (K : Int32 → MS → Prop) (hs : m_race  S K) : mMeti l yX6_race cX6_race 1 6 125 S (fun ad => []) K := by
  intro D dT h ad sz
  refine mEnter (Qc := mQi D dT h ad K) (by decide) rfl (by rfl) ?_
  intro p e s m args below meth c A ls X hK hA hM hl
  have hx := X.1
  have hb := X.2.1
  have hts := X.2.2.2.2.1
  have hown := X.2.2.2.2.2.1
  have hl : lv_has ls 1 [(0, .ref h)] := hl
  unfold m_race at hs
  refine lv_aload_n hx hb dX6_race_0 rfl (lv_at hl 0 rfl) ?_
  refine m_geti (v := .int (S.1 0)) X hK hM 0 q1476 rfl rfl rfl dX6_race_1 ?_
  refine lv_if_ne (tgt := 16) hx hb dX6_race_4 (by decide) (fun c4 => ?_) (fun c4 => ?_)
  · replace hs := ifn c4 hs
    refine lv_aload_n hx hb dX6_race_16 rfl (lv_at hl 0 rfl) ?_
    refine m_calli (rest := []) (av := fun ad => []) X hK hA hM (met_raced l  _ _ hs) iX6_raced q1974 ⟨Nat.le_of_ble_eq_true rfl, Nat.le_of_ble_eq_true rfl⟩ rfl hl.1 rfl (Nat.le_of_ble_eq_true rfl) dX6_race_17 (fun r2 S1 H locs hs hM => ?_)
    exact m_reti X hK hM hs dX6_race_20
  · replace hs := ifp c4 hs
    refine lv_aload_n hx hb dX6_race_7 rfl (lv_at hl 0 rfl) ?_
    refine lv_bipush (v := (-5)) hx hb dX6_race_8 (by decide) ?_
    refine m_calli (rest := []) (av := fun ad => [.int (-5)]) X hK hA hM (met_noTen l (-5) _ _ hs) iX6_noTen q1934 ⟨Nat.le_of_ble_eq_true rfl, Nat.le_of_ble_eq_true rfl⟩ rfl hl.1 rfl (Nat.le_of_ble_eq_true rfl) dX6_race_10 (fun r4 S3 H locs hs hM => ?_)
    refine lv_goto (tgt := 20) hx hb dX6_race_13 (by decide) ?_
    exact m_reti X hK hM hs dX6_race_20
def m_summer_l37 (K : Int32 → MS → Prop) (a1 : Int32) (a2 : Int32) : Nat → Int32 → Int32 → MS → Prop
  | 0, _, _, _ => False
  | n37_7 + 1, x5, x6, S7 => (if a1 ≤ x6 then K x5 S7 else m_raced  S7 (fun r10 S9 => jn (fun (x11 : Int32) => m_summer_l37 K a1 a2 n37_7 x11 (x6 + 1) S9) (fun k54_11 => (if r10 = a2 then k54_11 (x5 + 1) else k54_11 x5))))
theorem m_summer_l37_s (K : Int32 → MS → Prop) (a1 : Int32) (a2 : Int32) (n37_7 : Nat) (x5 : Int32) (x6 : Int32) (S7 : MS) : m_summer_l37 K a1 a2 (n37_7 + 1) x5 x6 S7 = ((if a1 ≤ x6 then K x5 S7 else m_raced  S7 (fun r10 S9 => jn (fun (x11 : Int32) => m_summer_l37 K a1 a2 n37_7 x11 (x6 + 1) S9) (fun k54_11 => (if r10 = a2 then k54_11 (x5 + 1) else k54_11 x5))))) := rfl
def m_summer (a1 : Int32) (a2 : Int32) (S : MS) (K : Int32 → MS → Prop) : Prop := m_isChild a2 S (fun r2 S1 => (if r2 = 0 then m_no (-1) S1 (fun r17 S16 => K r17 S16) else jn (m_no (-6) S1 (fun r4 S3 => K r4 S3)) (fun k25_2 => (if a1 < 1 then k25_2 else (if a1 ≤ 30 then m_summer_l37 K a1 a2 NF 0 0 S1 else k25_2)))))
theorem iX6_summer : mInf yX6_summer cX6_summer 5 (some .int) 2 := ⟨q1988, q1989, q1990, by decide +kernel⟩
set_option maxHeartbeats 4000000 in
theorem met_summer (l : Launch) (a1 : Int32) (a2 : Int32) (S : MS) (K : Int32 → MS → Prop) (hs : m_summer a1 a2 S K) : mMeti l yX6_summer cX6_summer 5 6 125 S (fun ad => [.int a1, .int a2]) K := by
  intro D dT h ad sz
  refine mEnter (Qc := mQi D dT h ad K) (by decide) rfl (by rfl) ?_
  intro p e s m args below meth c A ls X hK hA hM hl
  have hx := X.1
  have hb := X.2.1
  have hts := X.2.2.2.2.1
  have hown := X.2.2.2.2.2.1
  have hl : lv_has ls 5 [(0, .ref h), (1, .int a1), (2, .int a2)] := hl
  unfold m_summer at hs
  refine lv_aload_n hx hb dX6_summer_0 rfl (lv_at hl 0 rfl) ?_
  refine lv_iload_n hx hb dX6_summer_1 rfl (lv_at hl 2 rfl) ?_
  refine m_callz (rest := []) (av := fun ad => [.int a2]) X hK hA hM (met_isChild l a2 _ _ hs) iX6_isChild q1682 ⟨Nat.le_of_ble_eq_true rfl, Nat.le_of_ble_eq_true rfl⟩ rfl hl.1 rfl (Nat.le_of_ble_eq_true rfl) dX6_summer_2 (fun r2 S1 H locs br2 hs hM => ?_)
  refine lv_if_ne (tgt := 14) hx hb dX6_summer_5 (by decide) (fun c17 => ?_) (fun c17 => ?_)
  · replace hs := ifn c17 hs
    refine lv_iload_n hx hb dX6_summer_14 rfl (lv_at hl 1 rfl) ?_
    refine lv_iconst (v := 1) hx hb dX6_summer_15 (by decide) ?_
    obtain ⟨k25_2, hk25_2, hs⟩ := jn_ex hs
    have Ek25_2 : ∀ (H : Heap) (locs : List Loc) (ls : Array Slot), k25_2 → mI D dT A s.heap h ad S1 H locs → lv_has ls 5 [(0, .ref h)] → W p l e (mRm 6 125) s m args below meth c H locs 0 0 (MQ below (mQi D dT h ad K A) args s 0 0 A) (F0 m 25 ls []) := by
      intro H locs ls hs hM hl
      rw [hk25_2] at hs
      refine lv_aload_n hx hb dX6_summer_25 rfl (lv_at hl 0 rfl) ?_
      refine lv_bipush (v := (-6)) hx hb dX6_summer_26 (by decide) ?_
      refine m_calli (rest := []) (av := fun ad => [.int (-6)]) X hK hA hM (met_no l (-6) _ _ hs) iX6_no q1662 ⟨Nat.le_of_ble_eq_true rfl, Nat.le_of_ble_eq_true rfl⟩ rfl hl.1 rfl (Nat.le_of_ble_eq_true rfl) dX6_summer_28 (fun r4 S3 H locs hs hM => ?_)
      exact m_reti X hK hM hs dX6_summer_31
    refine lv_icmp_lt (tgt := 25) hx hb dX6_summer_16 (by decide) (fun c14 => ?_) (fun c14 => ?_)
    · replace hs := ifp c14 hs
      exact Ek25_2 _ _ _ hs hM (lv_sub hl [0] rfl)
    · replace hs := ifn c14 hs
      refine lv_iload_n hx hb dX6_summer_19 rfl (lv_at hl 1 rfl) ?_
      refine lv_bipush (v := 30) hx hb dX6_summer_20 (by decide) ?_
      refine lv_icmp_le (tgt := 32) hx hb dX6_summer_22 (by decide) (fun c13 => ?_) (fun c13 => ?_)
      · replace hs := ifp c13 hs
        refine lv_iconst (v := 0) hx hb dX6_summer_32 (by decide) ?_
        refine lv_istore_n (lv' := [(3, .int 0), (0, .ref h), (1, .int a1), (2, .int a2)]) hx hb dX6_summer_33 rfl hl (by decide) rfl (fun ls hl => ?_)
        refine lv_iconst (v := 0) hx hb dX6_summer_34 (by decide) ?_
        refine lv_istore (lv' := [(4, .int 0), (3, .int 0), (0, .ref h), (1, .int a1), (2, .int a2)]) hx hb dX6_summer_35 hl (by decide) rfl (fun ls hl => ?_)
        have Lm_summer_l37 : ∀ (n37_7 : Nat) (x5 : Int32) (x6 : Int32) (S7 : MS) (H : Heap) (locs : List Loc) (ls : Array Slot), m_summer_l37 K a1 a2 n37_7 x5 x6 S7 → mI D dT A s.heap h ad S7 H locs → lv_has ls 5 [(0, .ref h), (1, .int a1), (2, .int a2), (3, .int x5), (4, .int x6)] → W p l e (mRm 6 125) s m args below meth c H locs 0 0 (MQ below (mQi D dT h ad K A) args s 0 0 A) (F0 m 37 ls []) := by
          intro n37_7
          induction n37_7 with
          | zero =>
            intro x5 x6 S7 H locs ls hs
            exact False.elim hs
          | succ n37_7 ihm_summer_l37 =>
            intro x5 x6 S7 H locs ls hs hM hl
            rw [m_summer_l37_s] at hs
            refine lv_iload hx hb dX6_summer_37 (lv_at hl 4 rfl) ?_
            refine lv_iload_n hx hb dX6_summer_39 rfl (lv_at hl 1 rfl) ?_
            refine lv_icmp_ge (tgt := 60) hx hb dX6_summer_40 (by decide) (fun c12 => ?_) (fun c12 => ?_)
            · replace hs := ifp c12 hs
              refine lv_iload_n hx hb dX6_summer_60 rfl (lv_at hl 3 rfl) ?_
              exact m_reti X hK hM hs dX6_summer_61
            · replace hs := ifn c12 hs
              refine lv_aload_n hx hb dX6_summer_43 rfl (lv_at hl 0 rfl) ?_
              refine m_calli (rest := []) (av := fun ad => []) X hK hA hM (met_raced l  _ _ hs) iX6_raced q1974 ⟨Nat.le_of_ble_eq_true rfl, Nat.le_of_ble_eq_true rfl⟩ rfl hl.1 rfl (Nat.le_of_ble_eq_true rfl) dX6_summer_44 (fun r10 S9 H locs hs hM => ?_)
              refine lv_iload_n hx hb dX6_summer_47 rfl (lv_at hl 2 rfl) ?_
              obtain ⟨k54_11, hk54_11, hs⟩ := jn_ex hs
              have Ek54_11 : ∀ (x11 : Int32) (H : Heap) (locs : List Loc) (ls : Array Slot), k54_11 x11 → mI D dT A s.heap h ad S9 H locs → lv_has ls 5 [(0, .ref h), (1, .int a1), (2, .int a2), (3, .int x11), (4, .int x6)] → W p l e (mRm 6 125) s m args below meth c H locs 0 0 (MQ below (mQi D dT h ad K A) args s 0 0 A) (F0 m 54 ls []) := by
                intro x11 H locs ls hs hM hl
                rw [hk54_11] at hs
                refine lv_iinc (v := (x6 + 1)) (lv' := [(4, .int (x6 + 1)), (0, .ref h), (1, .int a1), (2, .int a2), (3, .int x11)]) hx hb dX6_summer_54 hl (k := 4) rfl (congrArg (fun z => x6 + z) (show Int32.ofInt (1) = 1 by decide)) (by decide) rfl (fun ls hl => ?_)
                refine lv_goto (tgt := 37) hx hb dX6_summer_57 (by decide) ?_
                exact ihm_summer_l37 _ _ _ _ _ _ hs hM (lv_sub hl [1, 2, 3, 4, 0] rfl)
              refine lv_icmp_ne (tgt := 54) hx hb dX6_summer_48 (by decide) (fun c11 => ?_) (fun c11 => ?_)
              · replace hs := ifn c11 hs
                exact Ek54_11 _ _ _ _ hs hM hl
              · replace hs := ifp c11 hs
                refine lv_iinc (v := (x5 + 1)) (lv' := [(3, .int (x5 + 1)), (0, .ref h), (1, .int a1), (2, .int a2), (4, .int x6)]) hx hb dX6_summer_51 hl (k := 3) rfl (congrArg (fun z => x5 + z) (show Int32.ofInt (1) = 1 by decide)) (by decide) rfl (fun ls hl => ?_)
                exact Ek54_11 _ _ _ _ hs hM (lv_sub hl [1, 2, 3, 0, 4] rfl)
        exact Lm_summer_l37 NF _ _ _ _ _ _ hs hM (lv_sub hl [2, 3, 4, 1, 0] rfl)
      · replace hs := ifn c13 hs
        exact Ek25_2 _ _ _ hs hM (lv_sub hl [0] rfl)
  · replace hs := ifp c17 hs
    refine lv_aload_n hx hb dX6_summer_8 rfl (lv_at hl 0 rfl) ?_
    refine lv_iconst (v := (-1)) hx hb dX6_summer_9 (by decide) ?_
    refine m_calli (rest := []) (av := fun ad => [.int (-1)]) X hK hA hM (met_no l (-1) _ _ hs) iX6_no q1662 ⟨Nat.le_of_ble_eq_true rfl, Nat.le_of_ble_eq_true rfl⟩ rfl hl.1 rfl (Nat.le_of_ble_eq_true rfl) dX6_summer_10 (fun r17 S16 H locs hs hM => ?_)
    exact m_reti X hK hM hs dX6_summer_13
def m_seed (a1 : Int32) (S : MS) (K : Int32 → MS → Prop) : Prop := K (S.1 8) (mset S 8 a1)
theorem iX6_seed : mInf yX6_seed cX6_seed 3 (some .int) 1 := ⟨q1992, q1993, q1994, by decide +kernel⟩
set_option maxHeartbeats 4000000 in
theorem met_seed (l : Launch) (a1 : Int32) (S : MS) (K : Int32 → MS → Prop) (hs : m_seed a1 S K) : mMeti l yX6_seed cX6_seed 3 0 0 S (fun ad => [.int a1]) K := by
  intro D dT h ad sz
  refine mEnter (Qc := mQi D dT h ad K) (by decide) rfl (by rfl) ?_
  intro p e s m args below meth c A ls X hK hA hM hl
  have hx := X.1
  have hb := X.2.1
  have hts := X.2.2.2.2.1
  have hown := X.2.2.2.2.2.1
  have hl : lv_has ls 3 [(0, .ref h), (1, .int a1)] := hl
  unfold m_seed at hs
  refine lv_aload_n hx hb dX6_seed_0 rfl (lv_at hl 0 rfl) ?_
  refine m_geti (v := .int (S.1 8)) X hK hM 8 q1484 rfl rfl rfl dX6_seed_1 ?_
  refine lv_istore_n (lv' := [(2, .int (S.1 8)), (0, .ref h), (1, .int a1)]) hx hb dX6_seed_4 rfl hl (by decide) rfl (fun ls hl => ?_)
  refine lv_aload_n hx hb dX6_seed_5 rfl (lv_at hl 1 rfl) ?_
  refine lv_iload_n hx hb dX6_seed_6 rfl (lv_at hl 2 rfl) ?_
  refine m_puti X hK hM 8 q1484 rfl rfl rfl rfl rfl rfl dX6_seed_7 (fun H locs hM => ?_)
  refine lv_iload_n hx hb dX6_seed_10 rfl (lv_at hl 0 rfl) ?_
  exact m_reti X hK hM hs dX6_seed_11
def m_body (a1 : Int32) (S : MS) (K : MS → Prop) : Prop := jn (fun (S1 : MS) => K (mset S1 57 ((S1.1 57) + 1))) (fun k19_1 => (if 20 ≤ (S.1 57) then k19_1 S else obd (mast S 56 (S.1 57) a1) (fun S2 => k19_1 S2)))
theorem iX6_body : mInf yX6_body cX6_body 2 none 1 := ⟨q2005, qs90, q2006, by decide +kernel⟩
set_option maxHeartbeats 4000000 in
theorem met_body (l : Launch) (a1 : Int32) (S : MS) (K : MS → Prop) (hs : m_body a1 S K) : mMetv l yX6_body cX6_body 2 0 0 S (fun ad => [.int a1]) K := by
  intro D dT h ad sz
  refine mEnter (Qc := mQv D dT h ad K) (by decide) rfl (by rfl) ?_
  intro p e s m args below meth c A ls X hK hA hM hl
  have hx := X.1
  have hb := X.2.1
  have hts := X.2.2.2.2.1
  have hown := X.2.2.2.2.2.1
  have hl : lv_has ls 2 [(0, .ref h), (1, .int a1)] := hl
  unfold m_body at hs
  refine lv_aload_n hx hb dX6_body_0 rfl (lv_at hl 0 rfl) ?_
  refine m_geti (v := .int (S.1 57)) X hK hM 57 q1533 rfl rfl rfl dX6_body_1 ?_
  refine lv_bipush (v := 20) hx hb dX6_body_4 (by decide) ?_
  obtain ⟨k19_1, hk19_1, hs⟩ := jn_ex hs
  have Ek19_1 : ∀ (S1 : MS) (H : Heap) (locs : List Loc) (ls : Array Slot), k19_1 S1 → mI D dT A s.heap h ad S1 H locs → lv_has ls 2 [(0, .ref h)] → W p l e (mRm 0 0) s m args below meth c H locs 0 0 (MQ below (mQv D dT h ad K A) args s 0 0 A) (F0 m 19 ls []) := by
    intro S1 H locs ls hs hM hl
    rw [hk19_1] at hs
    refine lv_aload_n hx hb dX6_body_19 rfl (lv_at hl 0 rfl) ?_
    refine lv_dup hx hb dX6_body_20 rfl ?_
    refine m_geti (v := .int (S1.1 57)) X hK hM 57 q1533 rfl rfl rfl dX6_body_21 ?_
    refine lv_iconst (v := 1) hx hb dX6_body_24 (by decide) ?_
    refine lv_iadd hx hb dX6_body_25 ?_
    refine m_puti X hK hM 57 q1533 rfl rfl rfl rfl rfl rfl dX6_body_26 (fun H locs hM => ?_)
    exact m_retv X hK hM hs dX6_body_29
  refine lv_icmp_ge (tgt := 19) hx hb dX6_body_6 (by decide) (fun c2 => ?_) (fun c2 => ?_)
  · replace hs := ifp c2 hs
    exact Ek19_1 _ _ _ _ hs hM (lv_sub hl [0] rfl)
  · replace hs := ifn c2 hs
    refine lv_aload_n hx hb dX6_body_9 rfl (lv_at hl 0 rfl) ?_
    refine m_geti (v := .ref (ad 56)) X hK hM 56 q1532 rfl rfl rfl dX6_body_10 ?_
    refine lv_aload_n hx hb dX6_body_13 rfl (lv_at hl 0 rfl) ?_
    refine m_geti (v := .int (S.1 57)) X hK hM 57 q1533 rfl rfl rfl dX6_body_14 ?_
    refine lv_iload_n hx hb dX6_body_17 rfl (lv_at hl 1 rfl) ?_
    obtain ⟨S2, eS2, hs⟩ := hs
    refine m_iast X hK hM rfl eS2 dX6_body_18 (fun H locs hM => ?_)
    exact Ek19_1 _ _ _ _ hs hM (lv_sub hl [0] rfl)
def m_hopping (a1 : Int32) (a2 : Int32) (S : MS) (K : Int32 → MS → Prop) : Prop := obd (mald S 11 a1) (fun v1 => jn (fun (S2 : MS) => jn (m_body 51 S2 (fun S3 => jn (m_body 20 S3 (fun S4 => m_body 10 S4 (fun S5 => jn (obd (mald S5 12 a1) (fun v6 => jn ((if v1 = 6 then K ((((a2 + a1) + v6) - a1) * 2) S5 else K (((a2 + a1) + v6) - a1) S5)) (fun k95_6 => jn (fun (x8 : Int32) => (if v1 = 6 then K (x8 * 2) S5 else K x8 S5)) (fun k101_8 => (if v1 = 4 then k95_6 else (if v1 = 6 then k95_6 else k101_8 ((a2 + a1) + v6))))))) (fun k73_5 => jn (fun (x12 : Int32) => jn ((if v1 = 6 then K ((x12 - a1) * 2) S5 else K (x12 - a1) S5)) (fun k95_12 => jn (fun (x14 : Int32) => (if v1 = 6 then K (x14 * 2) S5 else K x14 S5)) (fun k101_14 => (if v1 = 4 then k95_12 else (if v1 = 6 then k95_12 else k101_14 x12))))) (fun k84_12 => (if v1 = 1 then k73_5 else (if v1 = 3 then k73_5 else k84_12 (a2 + a1)))))))) (fun k46_3 => jn (fun (S20 : MS) => m_body 10 S20 (fun S21 => jn (obd (mald S21 12 a1) (fun v22 => jn ((if v1 = 6 then K ((((a2 + a1) + v22) - a1) * 2) S21 else K (((a2 + a1) + v22) - a1) S21)) (fun k95_22 => jn (fun (x24 : Int32) => (if v1 = 6 then K (x24 * 2) S21 else K x24 S21)) (fun k101_24 => (if v1 = 4 then k95_22 else (if v1 = 6 then k95_22 else k101_24 ((a2 + a1) + v22))))))) (fun k73_21 => jn (fun (x28 : Int32) => jn ((if v1 = 6 then K ((x28 - a1) * 2) S21 else K (x28 - a1) S21)) (fun k95_28 => jn (fun (x30 : Int32) => (if v1 = 6 then K (x30 * 2) S21 else K x30 S21)) (fun k101_30 => (if v1 = 4 then k95_28 else (if v1 = 6 then k95_28 else k101_30 x28))))) (fun k84_28 => (if v1 = 1 then k73_21 else (if v1 = 3 then k73_21 else k84_28 (a2 + a1))))))) (fun k52_20 => (if v1 = 1 then k46_3 else (if v1 = 3 then k46_3 else k52_20 S3)))))) (fun k30_2 => jn (fun (S38 : MS) => jn (m_body 20 S38 (fun S39 => m_body 10 S39 (fun S40 => jn (obd (mald S40 12 a1) (fun v41 => jn ((if v1 = 6 then K ((((a2 + a1) + v41) - a1) * 2) S40 else K (((a2 + a1) + v41) - a1) S40)) (fun k95_41 => jn (fun (x43 : Int32) => (if v1 = 6 then K (x43 * 2) S40 else K x43 S40)) (fun k101_43 => (if v1 = 4 then k95_41 else (if v1 = 6 then k95_41 else k101_43 ((a2 + a1) + v41))))))) (fun k73_40 => jn (fun (x47 : Int32) => jn ((if v1 = 6 then K ((x47 - a1) * 2) S40 else K (x47 - a1) S40)) (fun k95_47 => jn (fun (x49 : Int32) => (if v1 = 6 then K (x49 * 2) S40 else K x49 S40)) (fun k101_49 => (if v1 = 4 then k95_47 else (if v1 = 6 then k95_47 else k101_49 x47))))) (fun k84_47 => (if v1 = 1 then k73_40 else (if v1 = 3 then k73_40 else k84_47 (a2 + a1)))))))) (fun k46_38 => jn (fun (S55 : MS) => m_body 10 S55 (fun S56 => jn (obd (mald S56 12 a1) (fun v57 => jn ((if v1 = 6 then K ((((a2 + a1) + v57) - a1) * 2) S56 else K (((a2 + a1) + v57) - a1) S56)) (fun k95_57 => jn (fun (x59 : Int32) => (if v1 = 6 then K (x59 * 2) S56 else K x59 S56)) (fun k101_59 => (if v1 = 4 then k95_57 else (if v1 = 6 then k95_57 else k101_59 ((a2 + a1) + v57))))))) (fun k73_56 => jn (fun (x63 : Int32) => jn ((if v1 = 6 then K ((x63 - a1) * 2) S56 else K (x63 - a1) S56)) (fun k95_63 => jn (fun (x65 : Int32) => (if v1 = 6 then K (x65 * 2) S56 else K x65 S56)) (fun k101_65 => (if v1 = 4 then k95_63 else (if v1 = 6 then k95_63 else k101_65 x63))))) (fun k84_63 => (if v1 = 1 then k73_56 else (if v1 = 3 then k73_56 else k84_63 (a2 + a1))))))) (fun k52_55 => (if v1 = 1 then k46_38 else (if v1 = 3 then k46_38 else k52_55 S38))))) (fun k36_38 => (if v1 = 4 then k30_2 else (if v1 = 6 then k30_2 else k36_38 S2))))) (fun k19_2 => (if v1 = 6 then m_body 70 S (fun S75 => k19_2 S75) else k19_2 S)))
theorem iX6_hopping : mInf yX6_hopping cX6_hopping 5 (some .int) 2 := ⟨q2001, qs89, q2002, by decide +kernel⟩
set_option maxHeartbeats 4000000 in
theorem met_hopping (l : Launch) (a1 : Int32) (a2 : Int32) (S : MS) (K : Int32 → MS → Prop) (hs : m_hopping a1 a2 S K) : mMeti l yX6_hopping cX6_hopping 5 1 21 S (fun ad => [.int a1, .int a2]) K := by
  intro D dT h ad sz
  refine mEnter (Qc := mQi D dT h ad K) (by decide) rfl (by rfl) ?_
  intro p e s m args below meth c A ls X hK hA hM hl
  have hx := X.1
  have hb := X.2.1
  have hts := X.2.2.2.2.1
  have hown := X.2.2.2.2.2.1
  have hl : lv_has ls 5 [(0, .ref h), (1, .int a1), (2, .int a2)] := hl
  unfold m_hopping at hs
  refine lv_aload_n hx hb dX6_hopping_0 rfl (lv_at hl 0 rfl) ?_
  refine m_geti (v := .ref (ad 11)) X hK hM 11 q1487 rfl rfl rfl dX6_hopping_1 ?_
  refine lv_iload_n hx hb dX6_hopping_4 rfl (lv_at hl 1 rfl) ?_
  obtain ⟨v1, ev1, hs⟩ := hs
  refine m_iald X hK hM rfl ev1 dX6_hopping_5 ?_
  refine lv_istore_n (lv' := [(3, .int v1), (0, .ref h), (1, .int a1), (2, .int a2)]) hx hb dX6_hopping_6 rfl hl (by decide) rfl (fun ls hl => ?_)
  refine lv_iload_n hx hb dX6_hopping_7 rfl (lv_at hl 0 rfl) ?_
  refine lv_bipush (v := 6) hx hb dX6_hopping_8 (by decide) ?_
  obtain ⟨k19_2, hk19_2, hs⟩ := jn_ex hs
  have Ek19_2 : ∀ (S2 : MS) (H : Heap) (locs : List Loc) (ls : Array Slot), k19_2 S2 → mI D dT A s.heap h ad S2 H locs → lv_has ls 5 [(0, .ref h), (1, .int a1), (2, .int a2), (3, .int v1)] → W p l e (mRm 1 21) s m args below meth c H locs 0 0 (MQ below (mQi D dT h ad K A) args s 0 0 A) (F0 m 19 ls []) := by
    intro S2 H locs ls hs hM hl
    rw [hk19_2] at hs
    refine lv_iload_n hx hb dX6_hopping_19 rfl (lv_at hl 3 rfl) ?_
    refine lv_iconst (v := 4) hx hb dX6_hopping_20 (by decide) ?_
    obtain ⟨k30_2, hk30_2, hs⟩ := jn_ex hs
    have Ek30_2 : ∀ (H : Heap) (locs : List Loc) (ls : Array Slot), k30_2 → mI D dT A s.heap h ad S2 H locs → lv_has ls 5 [(0, .ref h), (1, .int a1), (2, .int a2), (3, .int v1)] → W p l e (mRm 1 21) s m args below meth c H locs 0 0 (MQ below (mQi D dT h ad K A) args s 0 0 A) (F0 m 30 ls []) := by
      intro H locs ls hs hM hl
      rw [hk30_2] at hs
      refine lv_aload_n hx hb dX6_hopping_30 rfl (lv_at hl 0 rfl) ?_
      refine lv_bipush (v := 51) hx hb dX6_hopping_31 (by decide) ?_
      refine m_callv (rest := []) (av := fun ad => [.int 51]) X hK hA hM (met_body l 51 _ _ hs) iX6_body q2003 ⟨Nat.le_of_ble_eq_true rfl, Nat.le_of_ble_eq_true rfl⟩ rfl hl.1 rfl (Nat.le_of_ble_eq_true rfl) dX6_hopping_33 (fun S3 H locs hs hM => ?_)
      refine lv_iload_n hx hb dX6_hopping_36 rfl (lv_at hl 3 rfl) ?_
      refine lv_iconst (v := 1) hx hb dX6_hopping_37 (by decide) ?_
      obtain ⟨k46_3, hk46_3, hs⟩ := jn_ex hs
      have Ek46_3 : ∀ (H : Heap) (locs : List Loc) (ls : Array Slot), k46_3 → mI D dT A s.heap h ad S3 H locs → lv_has ls 5 [(0, .ref h), (1, .int a1), (2, .int a2), (3, .int v1)] → W p l e (mRm 1 21) s m args below meth c H locs 0 0 (MQ below (mQi D dT h ad K A) args s 0 0 A) (F0 m 46 ls []) := by
        intro H locs ls hs hM hl
        rw [hk46_3] at hs
        refine lv_aload_n hx hb dX6_hopping_46 rfl (lv_at hl 0 rfl) ?_
        refine lv_bipush (v := 20) hx hb dX6_hopping_47 (by decide) ?_
        refine m_callv (rest := []) (av := fun ad => [.int 20]) X hK hA hM (met_body l 20 _ _ hs) iX6_body q2003 ⟨Nat.le_of_ble_eq_true rfl, Nat.le_of_ble_eq_true rfl⟩ rfl hl.1 rfl (Nat.le_of_ble_eq_true rfl) dX6_hopping_49 (fun S4 H locs hs hM => ?_)
        refine lv_aload_n hx hb dX6_hopping_52 rfl (lv_at hl 0 rfl) ?_
        refine lv_bipush (v := 10) hx hb dX6_hopping_53 (by decide) ?_
        refine m_callv (rest := []) (av := fun ad => [.int 10]) X hK hA hM (met_body l 10 _ _ hs) iX6_body q2003 ⟨Nat.le_of_ble_eq_true rfl, Nat.le_of_ble_eq_true rfl⟩ rfl hl.1 rfl (Nat.le_of_ble_eq_true rfl) dX6_hopping_55 (fun S5 H locs hs hM => ?_)
        refine lv_iload_n hx hb dX6_hopping_58 rfl (lv_at hl 2 rfl) ?_
        refine lv_iload_n hx hb dX6_hopping_59 rfl (lv_at hl 1 rfl) ?_
        refine lv_iadd hx hb dX6_hopping_60 ?_
        refine lv_istore (lv' := [(4, .int (a2 + a1)), (0, .ref h), (1, .int a1), (2, .int a2), (3, .int v1)]) hx hb dX6_hopping_61 hl (by decide) rfl (fun ls hl => ?_)
        refine lv_iload_n hx hb dX6_hopping_63 rfl (lv_at hl 4 rfl) ?_
        refine lv_iconst (v := 1) hx hb dX6_hopping_64 (by decide) ?_
        obtain ⟨k73_5, hk73_5, hs⟩ := jn_ex hs
        have Ek73_5 : ∀ (H : Heap) (locs : List Loc) (ls : Array Slot), k73_5 → mI D dT A s.heap h ad S5 H locs → lv_has ls 5 [(0, .ref h), (1, .int a1), (3, .int v1), (4, .int (a2 + a1))] → W p l e (mRm 1 21) s m args below meth c H locs 0 0 (MQ below (mQi D dT h ad K A) args s 0 0 A) (F0 m 73 ls []) := by
          intro H locs ls hs hM hl
          rw [hk73_5] at hs
          refine lv_iload hx hb dX6_hopping_73 (lv_at hl 3 rfl) ?_
          refine lv_aload_n hx hb dX6_hopping_75 rfl (lv_at hl 0 rfl) ?_
          refine m_geti (v := .ref (ad 12)) X hK hM 12 q1488 rfl rfl rfl dX6_hopping_76 ?_
          refine lv_iload_n hx hb dX6_hopping_79 rfl (lv_at hl 1 rfl) ?_
          obtain ⟨v6, ev6, hs⟩ := hs
          refine m_iald X hK hM rfl ev6 dX6_hopping_80 ?_
          refine lv_iadd hx hb dX6_hopping_81 ?_
          refine lv_istore (lv' := [(4, .int ((a2 + a1) + v6)), (0, .ref h), (1, .int a1), (3, .int v1)]) hx hb dX6_hopping_82 hl (by decide) rfl (fun ls hl => ?_)
          refine lv_iload_n hx hb dX6_hopping_84 rfl (lv_at hl 3 rfl) ?_
          refine lv_iconst (v := 4) hx hb dX6_hopping_85 (by decide) ?_
          obtain ⟨k95_6, hk95_6, hs⟩ := jn_ex hs
          have Ek95_6 : ∀ (H : Heap) (locs : List Loc) (ls : Array Slot), k95_6 → mI D dT A s.heap h ad S5 H locs → lv_has ls 5 [(1, .int a1), (3, .int v1), (4, .int ((a2 + a1) + v6))] → W p l e (mRm 1 21) s m args below meth c H locs 0 0 (MQ below (mQi D dT h ad K A) args s 0 0 A) (F0 m 95 ls []) := by
            intro H locs ls hs hM hl
            rw [hk95_6] at hs
            refine lv_iload hx hb dX6_hopping_95 (lv_at hl 2 rfl) ?_
            refine lv_iload_n hx hb dX6_hopping_97 rfl (lv_at hl 0 rfl) ?_
            refine lv_isub hx hb dX6_hopping_98 ?_
            refine lv_istore (lv' := [(4, .int (((a2 + a1) + v6) - a1)), (1, .int a1), (3, .int v1)]) hx hb dX6_hopping_99 hl (by decide) rfl (fun ls hl => ?_)
            refine lv_iload_n hx hb dX6_hopping_101 rfl (lv_at hl 2 rfl) ?_
            refine lv_bipush (v := 6) hx hb dX6_hopping_102 (by decide) ?_
            refine lv_icmp_ne (tgt := 114) hx hb dX6_hopping_104 (by decide) (fun c6 => ?_) (fun c6 => ?_)
            · replace hs := ifn c6 hs
              refine lv_iload hx hb dX6_hopping_114 (lv_at hl 0 rfl) ?_
              exact m_reti X hK hM hs dX6_hopping_116
            · replace hs := ifp c6 hs
              refine lv_iload hx hb dX6_hopping_107 (lv_at hl 0 rfl) ?_
              refine lv_iconst (v := 2) hx hb dX6_hopping_109 (by decide) ?_
              refine lv_imul hx hb dX6_hopping_110 ?_
              refine lv_goto (tgt := 116) hx hb dX6_hopping_111 (by decide) ?_
              exact m_reti X hK hM hs dX6_hopping_116
          obtain ⟨k101_8, hk101_8, hs⟩ := jn_ex hs
          have Ek101_8 : ∀ (x8 : Int32) (H : Heap) (locs : List Loc) (ls : Array Slot), k101_8 x8 → mI D dT A s.heap h ad S5 H locs → lv_has ls 5 [(3, .int v1), (4, .int x8)] → W p l e (mRm 1 21) s m args below meth c H locs 0 0 (MQ below (mQi D dT h ad K A) args s 0 0 A) (F0 m 101 ls []) := by
            intro x8 H locs ls hs hM hl
            rw [hk101_8] at hs
            refine lv_iload_n hx hb dX6_hopping_101 rfl (lv_at hl 0 rfl) ?_
            refine lv_bipush (v := 6) hx hb dX6_hopping_102 (by decide) ?_
            refine lv_icmp_ne (tgt := 114) hx hb dX6_hopping_104 (by decide) (fun c8 => ?_) (fun c8 => ?_)
            · replace hs := ifn c8 hs
              refine lv_iload hx hb dX6_hopping_114 (lv_at hl 1 rfl) ?_
              exact m_reti X hK hM hs dX6_hopping_116
            · replace hs := ifp c8 hs
              refine lv_iload hx hb dX6_hopping_107 (lv_at hl 1 rfl) ?_
              refine lv_iconst (v := 2) hx hb dX6_hopping_109 (by decide) ?_
              refine lv_imul hx hb dX6_hopping_110 ?_
              refine lv_goto (tgt := 116) hx hb dX6_hopping_111 (by decide) ?_
              exact m_reti X hK hM hs dX6_hopping_116
          refine lv_icmp_eq (tgt := 95) hx hb dX6_hopping_86 (by decide) (fun c10 => ?_) (fun c10 => ?_)
          · replace hs := ifp c10 hs
            exact Ek95_6 _ _ _ hs hM (lv_sub hl [2, 3, 0] rfl)
          · replace hs := ifn c10 hs
            refine lv_iload_n hx hb dX6_hopping_89 rfl (lv_at hl 3 rfl) ?_
            refine lv_bipush (v := 6) hx hb dX6_hopping_90 (by decide) ?_
            refine lv_icmp_ne (tgt := 101) hx hb dX6_hopping_92 (by decide) (fun c9 => ?_) (fun c9 => ?_)
            · replace hs := ifn c9 hs
              exact Ek101_8 _ _ _ _ hs hM (lv_sub hl [3, 0] rfl)
            · replace hs := ifp c9 hs
              exact Ek95_6 _ _ _ hs hM (lv_sub hl [2, 3, 0] rfl)
        obtain ⟨k84_12, hk84_12, hs⟩ := jn_ex hs
        have Ek84_12 : ∀ (x12 : Int32) (H : Heap) (locs : List Loc) (ls : Array Slot), k84_12 x12 → mI D dT A s.heap h ad S5 H locs → lv_has ls 5 [(1, .int a1), (3, .int v1), (4, .int x12)] → W p l e (mRm 1 21) s m args below meth c H locs 0 0 (MQ below (mQi D dT h ad K A) args s 0 0 A) (F0 m 84 ls []) := by
          intro x12 H locs ls hs hM hl
          rw [hk84_12] at hs
          refine lv_iload_n hx hb dX6_hopping_84 rfl (lv_at hl 1 rfl) ?_
          refine lv_iconst (v := 4) hx hb dX6_hopping_85 (by decide) ?_
          obtain ⟨k95_12, hk95_12, hs⟩ := jn_ex hs
          have Ek95_12 : ∀ (H : Heap) (locs : List Loc) (ls : Array Slot), k95_12 → mI D dT A s.heap h ad S5 H locs → lv_has ls 5 [(1, .int a1), (3, .int v1), (4, .int x12)] → W p l e (mRm 1 21) s m args below meth c H locs 0 0 (MQ below (mQi D dT h ad K A) args s 0 0 A) (F0 m 95 ls []) := by
            intro H locs ls hs hM hl
            rw [hk95_12] at hs
            refine lv_iload hx hb dX6_hopping_95 (lv_at hl 2 rfl) ?_
            refine lv_iload_n hx hb dX6_hopping_97 rfl (lv_at hl 0 rfl) ?_
            refine lv_isub hx hb dX6_hopping_98 ?_
            refine lv_istore (lv' := [(4, .int (x12 - a1)), (1, .int a1), (3, .int v1)]) hx hb dX6_hopping_99 hl (by decide) rfl (fun ls hl => ?_)
            refine lv_iload_n hx hb dX6_hopping_101 rfl (lv_at hl 2 rfl) ?_
            refine lv_bipush (v := 6) hx hb dX6_hopping_102 (by decide) ?_
            refine lv_icmp_ne (tgt := 114) hx hb dX6_hopping_104 (by decide) (fun c12 => ?_) (fun c12 => ?_)
            · replace hs := ifn c12 hs
              refine lv_iload hx hb dX6_hopping_114 (lv_at hl 0 rfl) ?_
              exact m_reti X hK hM hs dX6_hopping_116
            · replace hs := ifp c12 hs
              refine lv_iload hx hb dX6_hopping_107 (lv_at hl 0 rfl) ?_
              refine lv_iconst (v := 2) hx hb dX6_hopping_109 (by decide) ?_
              refine lv_imul hx hb dX6_hopping_110 ?_
              refine lv_goto (tgt := 116) hx hb dX6_hopping_111 (by decide) ?_
              exact m_reti X hK hM hs dX6_hopping_116
          obtain ⟨k101_14, hk101_14, hs⟩ := jn_ex hs
          have Ek101_14 : ∀ (x14 : Int32) (H : Heap) (locs : List Loc) (ls : Array Slot), k101_14 x14 → mI D dT A s.heap h ad S5 H locs → lv_has ls 5 [(3, .int v1), (4, .int x14)] → W p l e (mRm 1 21) s m args below meth c H locs 0 0 (MQ below (mQi D dT h ad K A) args s 0 0 A) (F0 m 101 ls []) := by
            intro x14 H locs ls hs hM hl
            rw [hk101_14] at hs
            refine lv_iload_n hx hb dX6_hopping_101 rfl (lv_at hl 0 rfl) ?_
            refine lv_bipush (v := 6) hx hb dX6_hopping_102 (by decide) ?_
            refine lv_icmp_ne (tgt := 114) hx hb dX6_hopping_104 (by decide) (fun c14 => ?_) (fun c14 => ?_)
            · replace hs := ifn c14 hs
              refine lv_iload hx hb dX6_hopping_114 (lv_at hl 1 rfl) ?_
              exact m_reti X hK hM hs dX6_hopping_116
            · replace hs := ifp c14 hs
              refine lv_iload hx hb dX6_hopping_107 (lv_at hl 1 rfl) ?_
              refine lv_iconst (v := 2) hx hb dX6_hopping_109 (by decide) ?_
              refine lv_imul hx hb dX6_hopping_110 ?_
              refine lv_goto (tgt := 116) hx hb dX6_hopping_111 (by decide) ?_
              exact m_reti X hK hM hs dX6_hopping_116
          refine lv_icmp_eq (tgt := 95) hx hb dX6_hopping_86 (by decide) (fun c16 => ?_) (fun c16 => ?_)
          · replace hs := ifp c16 hs
            exact Ek95_12 _ _ _ hs hM hl
          · replace hs := ifn c16 hs
            refine lv_iload_n hx hb dX6_hopping_89 rfl (lv_at hl 1 rfl) ?_
            refine lv_bipush (v := 6) hx hb dX6_hopping_90 (by decide) ?_
            refine lv_icmp_ne (tgt := 101) hx hb dX6_hopping_92 (by decide) (fun c15 => ?_) (fun c15 => ?_)
            · replace hs := ifn c15 hs
              exact Ek101_14 _ _ _ _ hs hM (lv_sub hl [1, 2] rfl)
            · replace hs := ifp c15 hs
              exact Ek95_12 _ _ _ hs hM hl
        refine lv_icmp_eq (tgt := 73) hx hb dX6_hopping_65 (by decide) (fun c18 => ?_) (fun c18 => ?_)
        · replace hs := ifp c18 hs
          exact Ek73_5 _ _ _ hs hM (lv_sub hl [1, 2, 4, 0] rfl)
        · replace hs := ifn c18 hs
          refine lv_iload_n hx hb dX6_hopping_68 rfl (lv_at hl 4 rfl) ?_
          refine lv_iconst (v := 3) hx hb dX6_hopping_69 (by decide) ?_
          refine lv_icmp_ne (tgt := 84) hx hb dX6_hopping_70 (by decide) (fun c17 => ?_) (fun c17 => ?_)
          · replace hs := ifn c17 hs
            exact Ek84_12 _ _ _ _ hs hM (lv_sub hl [2, 4, 0] rfl)
          · replace hs := ifp c17 hs
            exact Ek73_5 _ _ _ hs hM (lv_sub hl [1, 2, 4, 0] rfl)
      obtain ⟨k52_20, hk52_20, hs⟩ := jn_ex hs
      have Ek52_20 : ∀ (S20 : MS) (H : Heap) (locs : List Loc) (ls : Array Slot), k52_20 S20 → mI D dT A s.heap h ad S20 H locs → lv_has ls 5 [(0, .ref h), (1, .int a1), (2, .int a2), (3, .int v1)] → W p l e (mRm 1 21) s m args below meth c H locs 0 0 (MQ below (mQi D dT h ad K A) args s 0 0 A) (F0 m 52 ls []) := by
        intro S20 H locs ls hs hM hl
        rw [hk52_20] at hs
        refine lv_aload_n hx hb dX6_hopping_52 rfl (lv_at hl 0 rfl) ?_
        refine lv_bipush (v := 10) hx hb dX6_hopping_53 (by decide) ?_
        refine m_callv (rest := []) (av := fun ad => [.int 10]) X hK hA hM (met_body l 10 _ _ hs) iX6_body q2003 ⟨Nat.le_of_ble_eq_true rfl, Nat.le_of_ble_eq_true rfl⟩ rfl hl.1 rfl (Nat.le_of_ble_eq_true rfl) dX6_hopping_55 (fun S21 H locs hs hM => ?_)
        refine lv_iload_n hx hb dX6_hopping_58 rfl (lv_at hl 2 rfl) ?_
        refine lv_iload_n hx hb dX6_hopping_59 rfl (lv_at hl 1 rfl) ?_
        refine lv_iadd hx hb dX6_hopping_60 ?_
        refine lv_istore (lv' := [(4, .int (a2 + a1)), (0, .ref h), (1, .int a1), (2, .int a2), (3, .int v1)]) hx hb dX6_hopping_61 hl (by decide) rfl (fun ls hl => ?_)
        refine lv_iload_n hx hb dX6_hopping_63 rfl (lv_at hl 4 rfl) ?_
        refine lv_iconst (v := 1) hx hb dX6_hopping_64 (by decide) ?_
        obtain ⟨k73_21, hk73_21, hs⟩ := jn_ex hs
        have Ek73_21 : ∀ (H : Heap) (locs : List Loc) (ls : Array Slot), k73_21 → mI D dT A s.heap h ad S21 H locs → lv_has ls 5 [(0, .ref h), (1, .int a1), (3, .int v1), (4, .int (a2 + a1))] → W p l e (mRm 1 21) s m args below meth c H locs 0 0 (MQ below (mQi D dT h ad K A) args s 0 0 A) (F0 m 73 ls []) := by
          intro H locs ls hs hM hl
          rw [hk73_21] at hs
          refine lv_iload hx hb dX6_hopping_73 (lv_at hl 3 rfl) ?_
          refine lv_aload_n hx hb dX6_hopping_75 rfl (lv_at hl 0 rfl) ?_
          refine m_geti (v := .ref (ad 12)) X hK hM 12 q1488 rfl rfl rfl dX6_hopping_76 ?_
          refine lv_iload_n hx hb dX6_hopping_79 rfl (lv_at hl 1 rfl) ?_
          obtain ⟨v22, ev22, hs⟩ := hs
          refine m_iald X hK hM rfl ev22 dX6_hopping_80 ?_
          refine lv_iadd hx hb dX6_hopping_81 ?_
          refine lv_istore (lv' := [(4, .int ((a2 + a1) + v22)), (0, .ref h), (1, .int a1), (3, .int v1)]) hx hb dX6_hopping_82 hl (by decide) rfl (fun ls hl => ?_)
          refine lv_iload_n hx hb dX6_hopping_84 rfl (lv_at hl 3 rfl) ?_
          refine lv_iconst (v := 4) hx hb dX6_hopping_85 (by decide) ?_
          obtain ⟨k95_22, hk95_22, hs⟩ := jn_ex hs
          have Ek95_22 : ∀ (H : Heap) (locs : List Loc) (ls : Array Slot), k95_22 → mI D dT A s.heap h ad S21 H locs → lv_has ls 5 [(1, .int a1), (3, .int v1), (4, .int ((a2 + a1) + v22))] → W p l e (mRm 1 21) s m args below meth c H locs 0 0 (MQ below (mQi D dT h ad K A) args s 0 0 A) (F0 m 95 ls []) := by
            intro H locs ls hs hM hl
            rw [hk95_22] at hs
            refine lv_iload hx hb dX6_hopping_95 (lv_at hl 2 rfl) ?_
            refine lv_iload_n hx hb dX6_hopping_97 rfl (lv_at hl 0 rfl) ?_
            refine lv_isub hx hb dX6_hopping_98 ?_
            refine lv_istore (lv' := [(4, .int (((a2 + a1) + v22) - a1)), (1, .int a1), (3, .int v1)]) hx hb dX6_hopping_99 hl (by decide) rfl (fun ls hl => ?_)
            refine lv_iload_n hx hb dX6_hopping_101 rfl (lv_at hl 2 rfl) ?_
            refine lv_bipush (v := 6) hx hb dX6_hopping_102 (by decide) ?_
            refine lv_icmp_ne (tgt := 114) hx hb dX6_hopping_104 (by decide) (fun c22 => ?_) (fun c22 => ?_)
            · replace hs := ifn c22 hs
              refine lv_iload hx hb dX6_hopping_114 (lv_at hl 0 rfl) ?_
              exact m_reti X hK hM hs dX6_hopping_116
            · replace hs := ifp c22 hs
              refine lv_iload hx hb dX6_hopping_107 (lv_at hl 0 rfl) ?_
              refine lv_iconst (v := 2) hx hb dX6_hopping_109 (by decide) ?_
              refine lv_imul hx hb dX6_hopping_110 ?_
              refine lv_goto (tgt := 116) hx hb dX6_hopping_111 (by decide) ?_
              exact m_reti X hK hM hs dX6_hopping_116
          obtain ⟨k101_24, hk101_24, hs⟩ := jn_ex hs
          have Ek101_24 : ∀ (x24 : Int32) (H : Heap) (locs : List Loc) (ls : Array Slot), k101_24 x24 → mI D dT A s.heap h ad S21 H locs → lv_has ls 5 [(3, .int v1), (4, .int x24)] → W p l e (mRm 1 21) s m args below meth c H locs 0 0 (MQ below (mQi D dT h ad K A) args s 0 0 A) (F0 m 101 ls []) := by
            intro x24 H locs ls hs hM hl
            rw [hk101_24] at hs
            refine lv_iload_n hx hb dX6_hopping_101 rfl (lv_at hl 0 rfl) ?_
            refine lv_bipush (v := 6) hx hb dX6_hopping_102 (by decide) ?_
            refine lv_icmp_ne (tgt := 114) hx hb dX6_hopping_104 (by decide) (fun c24 => ?_) (fun c24 => ?_)
            · replace hs := ifn c24 hs
              refine lv_iload hx hb dX6_hopping_114 (lv_at hl 1 rfl) ?_
              exact m_reti X hK hM hs dX6_hopping_116
            · replace hs := ifp c24 hs
              refine lv_iload hx hb dX6_hopping_107 (lv_at hl 1 rfl) ?_
              refine lv_iconst (v := 2) hx hb dX6_hopping_109 (by decide) ?_
              refine lv_imul hx hb dX6_hopping_110 ?_
              refine lv_goto (tgt := 116) hx hb dX6_hopping_111 (by decide) ?_
              exact m_reti X hK hM hs dX6_hopping_116
          refine lv_icmp_eq (tgt := 95) hx hb dX6_hopping_86 (by decide) (fun c26 => ?_) (fun c26 => ?_)
          · replace hs := ifp c26 hs
            exact Ek95_22 _ _ _ hs hM (lv_sub hl [2, 3, 0] rfl)
          · replace hs := ifn c26 hs
            refine lv_iload_n hx hb dX6_hopping_89 rfl (lv_at hl 3 rfl) ?_
            refine lv_bipush (v := 6) hx hb dX6_hopping_90 (by decide) ?_
            refine lv_icmp_ne (tgt := 101) hx hb dX6_hopping_92 (by decide) (fun c25 => ?_) (fun c25 => ?_)
            · replace hs := ifn c25 hs
              exact Ek101_24 _ _ _ _ hs hM (lv_sub hl [3, 0] rfl)
            · replace hs := ifp c25 hs
              exact Ek95_22 _ _ _ hs hM (lv_sub hl [2, 3, 0] rfl)
        obtain ⟨k84_28, hk84_28, hs⟩ := jn_ex hs
        have Ek84_28 : ∀ (x28 : Int32) (H : Heap) (locs : List Loc) (ls : Array Slot), k84_28 x28 → mI D dT A s.heap h ad S21 H locs → lv_has ls 5 [(1, .int a1), (3, .int v1), (4, .int x28)] → W p l e (mRm 1 21) s m args below meth c H locs 0 0 (MQ below (mQi D dT h ad K A) args s 0 0 A) (F0 m 84 ls []) := by
          intro x28 H locs ls hs hM hl
          rw [hk84_28] at hs
          refine lv_iload_n hx hb dX6_hopping_84 rfl (lv_at hl 1 rfl) ?_
          refine lv_iconst (v := 4) hx hb dX6_hopping_85 (by decide) ?_
          obtain ⟨k95_28, hk95_28, hs⟩ := jn_ex hs
          have Ek95_28 : ∀ (H : Heap) (locs : List Loc) (ls : Array Slot), k95_28 → mI D dT A s.heap h ad S21 H locs → lv_has ls 5 [(1, .int a1), (3, .int v1), (4, .int x28)] → W p l e (mRm 1 21) s m args below meth c H locs 0 0 (MQ below (mQi D dT h ad K A) args s 0 0 A) (F0 m 95 ls []) := by
            intro H locs ls hs hM hl
            rw [hk95_28] at hs
            refine lv_iload hx hb dX6_hopping_95 (lv_at hl 2 rfl) ?_
            refine lv_iload_n hx hb dX6_hopping_97 rfl (lv_at hl 0 rfl) ?_
            refine lv_isub hx hb dX6_hopping_98 ?_
            refine lv_istore (lv' := [(4, .int (x28 - a1)), (1, .int a1), (3, .int v1)]) hx hb dX6_hopping_99 hl (by decide) rfl (fun ls hl => ?_)
            refine lv_iload_n hx hb dX6_hopping_101 rfl (lv_at hl 2 rfl) ?_
            refine lv_bipush (v := 6) hx hb dX6_hopping_102 (by decide) ?_
            refine lv_icmp_ne (tgt := 114) hx hb dX6_hopping_104 (by decide) (fun c28 => ?_) (fun c28 => ?_)
            · replace hs := ifn c28 hs
              refine lv_iload hx hb dX6_hopping_114 (lv_at hl 0 rfl) ?_
              exact m_reti X hK hM hs dX6_hopping_116
            · replace hs := ifp c28 hs
              refine lv_iload hx hb dX6_hopping_107 (lv_at hl 0 rfl) ?_
              refine lv_iconst (v := 2) hx hb dX6_hopping_109 (by decide) ?_
              refine lv_imul hx hb dX6_hopping_110 ?_
              refine lv_goto (tgt := 116) hx hb dX6_hopping_111 (by decide) ?_
              exact m_reti X hK hM hs dX6_hopping_116
          obtain ⟨k101_30, hk101_30, hs⟩ := jn_ex hs
          have Ek101_30 : ∀ (x30 : Int32) (H : Heap) (locs : List Loc) (ls : Array Slot), k101_30 x30 → mI D dT A s.heap h ad S21 H locs → lv_has ls 5 [(3, .int v1), (4, .int x30)] → W p l e (mRm 1 21) s m args below meth c H locs 0 0 (MQ below (mQi D dT h ad K A) args s 0 0 A) (F0 m 101 ls []) := by
            intro x30 H locs ls hs hM hl
            rw [hk101_30] at hs
            refine lv_iload_n hx hb dX6_hopping_101 rfl (lv_at hl 0 rfl) ?_
            refine lv_bipush (v := 6) hx hb dX6_hopping_102 (by decide) ?_
            refine lv_icmp_ne (tgt := 114) hx hb dX6_hopping_104 (by decide) (fun c30 => ?_) (fun c30 => ?_)
            · replace hs := ifn c30 hs
              refine lv_iload hx hb dX6_hopping_114 (lv_at hl 1 rfl) ?_
              exact m_reti X hK hM hs dX6_hopping_116
            · replace hs := ifp c30 hs
              refine lv_iload hx hb dX6_hopping_107 (lv_at hl 1 rfl) ?_
              refine lv_iconst (v := 2) hx hb dX6_hopping_109 (by decide) ?_
              refine lv_imul hx hb dX6_hopping_110 ?_
              refine lv_goto (tgt := 116) hx hb dX6_hopping_111 (by decide) ?_
              exact m_reti X hK hM hs dX6_hopping_116
          refine lv_icmp_eq (tgt := 95) hx hb dX6_hopping_86 (by decide) (fun c32 => ?_) (fun c32 => ?_)
          · replace hs := ifp c32 hs
            exact Ek95_28 _ _ _ hs hM hl
          · replace hs := ifn c32 hs
            refine lv_iload_n hx hb dX6_hopping_89 rfl (lv_at hl 1 rfl) ?_
            refine lv_bipush (v := 6) hx hb dX6_hopping_90 (by decide) ?_
            refine lv_icmp_ne (tgt := 101) hx hb dX6_hopping_92 (by decide) (fun c31 => ?_) (fun c31 => ?_)
            · replace hs := ifn c31 hs
              exact Ek101_30 _ _ _ _ hs hM (lv_sub hl [1, 2] rfl)
            · replace hs := ifp c31 hs
              exact Ek95_28 _ _ _ hs hM hl
        refine lv_icmp_eq (tgt := 73) hx hb dX6_hopping_65 (by decide) (fun c34 => ?_) (fun c34 => ?_)
        · replace hs := ifp c34 hs
          exact Ek73_21 _ _ _ hs hM (lv_sub hl [1, 2, 4, 0] rfl)
        · replace hs := ifn c34 hs
          refine lv_iload_n hx hb dX6_hopping_68 rfl (lv_at hl 4 rfl) ?_
          refine lv_iconst (v := 3) hx hb dX6_hopping_69 (by decide) ?_
          refine lv_icmp_ne (tgt := 84) hx hb dX6_hopping_70 (by decide) (fun c33 => ?_) (fun c33 => ?_)
          · replace hs := ifn c33 hs
            exact Ek84_28 _ _ _ _ hs hM (lv_sub hl [2, 4, 0] rfl)
          · replace hs := ifp c33 hs
            exact Ek73_21 _ _ _ hs hM (lv_sub hl [1, 2, 4, 0] rfl)
      refine lv_icmp_eq (tgt := 46) hx hb dX6_hopping_38 (by decide) (fun c36 => ?_) (fun c36 => ?_)
      · replace hs := ifp c36 hs
        exact Ek46_3 _ _ _ hs hM hl
      · replace hs := ifn c36 hs
        refine lv_iload_n hx hb dX6_hopping_41 rfl (lv_at hl 3 rfl) ?_
        refine lv_iconst (v := 3) hx hb dX6_hopping_42 (by decide) ?_
        refine lv_icmp_ne (tgt := 52) hx hb dX6_hopping_43 (by decide) (fun c35 => ?_) (fun c35 => ?_)
        · replace hs := ifn c35 hs
          exact Ek52_20 _ _ _ _ hs hM hl
        · replace hs := ifp c35 hs
          exact Ek46_3 _ _ _ hs hM hl
    obtain ⟨k36_38, hk36_38, hs⟩ := jn_ex hs
    have Ek36_38 : ∀ (S38 : MS) (H : Heap) (locs : List Loc) (ls : Array Slot), k36_38 S38 → mI D dT A s.heap h ad S38 H locs → lv_has ls 5 [(0, .ref h), (1, .int a1), (2, .int a2), (3, .int v1)] → W p l e (mRm 1 21) s m args below meth c H locs 0 0 (MQ below (mQi D dT h ad K A) args s 0 0 A) (F0 m 36 ls []) := by
      intro S38 H locs ls hs hM hl
      rw [hk36_38] at hs
      refine lv_iload_n hx hb dX6_hopping_36 rfl (lv_at hl 3 rfl) ?_
      refine lv_iconst (v := 1) hx hb dX6_hopping_37 (by decide) ?_
      obtain ⟨k46_38, hk46_38, hs⟩ := jn_ex hs
      have Ek46_38 : ∀ (H : Heap) (locs : List Loc) (ls : Array Slot), k46_38 → mI D dT A s.heap h ad S38 H locs → lv_has ls 5 [(0, .ref h), (1, .int a1), (2, .int a2), (3, .int v1)] → W p l e (mRm 1 21) s m args below meth c H locs 0 0 (MQ below (mQi D dT h ad K A) args s 0 0 A) (F0 m 46 ls []) := by
        intro H locs ls hs hM hl
        rw [hk46_38] at hs
        refine lv_aload_n hx hb dX6_hopping_46 rfl (lv_at hl 0 rfl) ?_
        refine lv_bipush (v := 20) hx hb dX6_hopping_47 (by decide) ?_
        refine m_callv (rest := []) (av := fun ad => [.int 20]) X hK hA hM (met_body l 20 _ _ hs) iX6_body q2003 ⟨Nat.le_of_ble_eq_true rfl, Nat.le_of_ble_eq_true rfl⟩ rfl hl.1 rfl (Nat.le_of_ble_eq_true rfl) dX6_hopping_49 (fun S39 H locs hs hM => ?_)
        refine lv_aload_n hx hb dX6_hopping_52 rfl (lv_at hl 0 rfl) ?_
        refine lv_bipush (v := 10) hx hb dX6_hopping_53 (by decide) ?_
        refine m_callv (rest := []) (av := fun ad => [.int 10]) X hK hA hM (met_body l 10 _ _ hs) iX6_body q2003 ⟨Nat.le_of_ble_eq_true rfl, Nat.le_of_ble_eq_true rfl⟩ rfl hl.1 rfl (Nat.le_of_ble_eq_true rfl) dX6_hopping_55 (fun S40 H locs hs hM => ?_)
        refine lv_iload_n hx hb dX6_hopping_58 rfl (lv_at hl 2 rfl) ?_
        refine lv_iload_n hx hb dX6_hopping_59 rfl (lv_at hl 1 rfl) ?_
        refine lv_iadd hx hb dX6_hopping_60 ?_
        refine lv_istore (lv' := [(4, .int (a2 + a1)), (0, .ref h), (1, .int a1), (2, .int a2), (3, .int v1)]) hx hb dX6_hopping_61 hl (by decide) rfl (fun ls hl => ?_)
        refine lv_iload_n hx hb dX6_hopping_63 rfl (lv_at hl 4 rfl) ?_
        refine lv_iconst (v := 1) hx hb dX6_hopping_64 (by decide) ?_
        obtain ⟨k73_40, hk73_40, hs⟩ := jn_ex hs
        have Ek73_40 : ∀ (H : Heap) (locs : List Loc) (ls : Array Slot), k73_40 → mI D dT A s.heap h ad S40 H locs → lv_has ls 5 [(0, .ref h), (1, .int a1), (3, .int v1), (4, .int (a2 + a1))] → W p l e (mRm 1 21) s m args below meth c H locs 0 0 (MQ below (mQi D dT h ad K A) args s 0 0 A) (F0 m 73 ls []) := by
          intro H locs ls hs hM hl
          rw [hk73_40] at hs
          refine lv_iload hx hb dX6_hopping_73 (lv_at hl 3 rfl) ?_
          refine lv_aload_n hx hb dX6_hopping_75 rfl (lv_at hl 0 rfl) ?_
          refine m_geti (v := .ref (ad 12)) X hK hM 12 q1488 rfl rfl rfl dX6_hopping_76 ?_
          refine lv_iload_n hx hb dX6_hopping_79 rfl (lv_at hl 1 rfl) ?_
          obtain ⟨v41, ev41, hs⟩ := hs
          refine m_iald X hK hM rfl ev41 dX6_hopping_80 ?_
          refine lv_iadd hx hb dX6_hopping_81 ?_
          refine lv_istore (lv' := [(4, .int ((a2 + a1) + v41)), (0, .ref h), (1, .int a1), (3, .int v1)]) hx hb dX6_hopping_82 hl (by decide) rfl (fun ls hl => ?_)
          refine lv_iload_n hx hb dX6_hopping_84 rfl (lv_at hl 3 rfl) ?_
          refine lv_iconst (v := 4) hx hb dX6_hopping_85 (by decide) ?_
          obtain ⟨k95_41, hk95_41, hs⟩ := jn_ex hs
          have Ek95_41 : ∀ (H : Heap) (locs : List Loc) (ls : Array Slot), k95_41 → mI D dT A s.heap h ad S40 H locs → lv_has ls 5 [(1, .int a1), (3, .int v1), (4, .int ((a2 + a1) + v41))] → W p l e (mRm 1 21) s m args below meth c H locs 0 0 (MQ below (mQi D dT h ad K A) args s 0 0 A) (F0 m 95 ls []) := by
            intro H locs ls hs hM hl
            rw [hk95_41] at hs
            refine lv_iload hx hb dX6_hopping_95 (lv_at hl 2 rfl) ?_
            refine lv_iload_n hx hb dX6_hopping_97 rfl (lv_at hl 0 rfl) ?_
            refine lv_isub hx hb dX6_hopping_98 ?_
            refine lv_istore (lv' := [(4, .int (((a2 + a1) + v41) - a1)), (1, .int a1), (3, .int v1)]) hx hb dX6_hopping_99 hl (by decide) rfl (fun ls hl => ?_)
            refine lv_iload_n hx hb dX6_hopping_101 rfl (lv_at hl 2 rfl) ?_
            refine lv_bipush (v := 6) hx hb dX6_hopping_102 (by decide) ?_
            refine lv_icmp_ne (tgt := 114) hx hb dX6_hopping_104 (by decide) (fun c41 => ?_) (fun c41 => ?_)
            · replace hs := ifn c41 hs
              refine lv_iload hx hb dX6_hopping_114 (lv_at hl 0 rfl) ?_
              exact m_reti X hK hM hs dX6_hopping_116
            · replace hs := ifp c41 hs
              refine lv_iload hx hb dX6_hopping_107 (lv_at hl 0 rfl) ?_
              refine lv_iconst (v := 2) hx hb dX6_hopping_109 (by decide) ?_
              refine lv_imul hx hb dX6_hopping_110 ?_
              refine lv_goto (tgt := 116) hx hb dX6_hopping_111 (by decide) ?_
              exact m_reti X hK hM hs dX6_hopping_116
          obtain ⟨k101_43, hk101_43, hs⟩ := jn_ex hs
          have Ek101_43 : ∀ (x43 : Int32) (H : Heap) (locs : List Loc) (ls : Array Slot), k101_43 x43 → mI D dT A s.heap h ad S40 H locs → lv_has ls 5 [(3, .int v1), (4, .int x43)] → W p l e (mRm 1 21) s m args below meth c H locs 0 0 (MQ below (mQi D dT h ad K A) args s 0 0 A) (F0 m 101 ls []) := by
            intro x43 H locs ls hs hM hl
            rw [hk101_43] at hs
            refine lv_iload_n hx hb dX6_hopping_101 rfl (lv_at hl 0 rfl) ?_
            refine lv_bipush (v := 6) hx hb dX6_hopping_102 (by decide) ?_
            refine lv_icmp_ne (tgt := 114) hx hb dX6_hopping_104 (by decide) (fun c43 => ?_) (fun c43 => ?_)
            · replace hs := ifn c43 hs
              refine lv_iload hx hb dX6_hopping_114 (lv_at hl 1 rfl) ?_
              exact m_reti X hK hM hs dX6_hopping_116
            · replace hs := ifp c43 hs
              refine lv_iload hx hb dX6_hopping_107 (lv_at hl 1 rfl) ?_
              refine lv_iconst (v := 2) hx hb dX6_hopping_109 (by decide) ?_
              refine lv_imul hx hb dX6_hopping_110 ?_
              refine lv_goto (tgt := 116) hx hb dX6_hopping_111 (by decide) ?_
              exact m_reti X hK hM hs dX6_hopping_116
          refine lv_icmp_eq (tgt := 95) hx hb dX6_hopping_86 (by decide) (fun c45 => ?_) (fun c45 => ?_)
          · replace hs := ifp c45 hs
            exact Ek95_41 _ _ _ hs hM (lv_sub hl [2, 3, 0] rfl)
          · replace hs := ifn c45 hs
            refine lv_iload_n hx hb dX6_hopping_89 rfl (lv_at hl 3 rfl) ?_
            refine lv_bipush (v := 6) hx hb dX6_hopping_90 (by decide) ?_
            refine lv_icmp_ne (tgt := 101) hx hb dX6_hopping_92 (by decide) (fun c44 => ?_) (fun c44 => ?_)
            · replace hs := ifn c44 hs
              exact Ek101_43 _ _ _ _ hs hM (lv_sub hl [3, 0] rfl)
            · replace hs := ifp c44 hs
              exact Ek95_41 _ _ _ hs hM (lv_sub hl [2, 3, 0] rfl)
        obtain ⟨k84_47, hk84_47, hs⟩ := jn_ex hs
        have Ek84_47 : ∀ (x47 : Int32) (H : Heap) (locs : List Loc) (ls : Array Slot), k84_47 x47 → mI D dT A s.heap h ad S40 H locs → lv_has ls 5 [(1, .int a1), (3, .int v1), (4, .int x47)] → W p l e (mRm 1 21) s m args below meth c H locs 0 0 (MQ below (mQi D dT h ad K A) args s 0 0 A) (F0 m 84 ls []) := by
          intro x47 H locs ls hs hM hl
          rw [hk84_47] at hs
          refine lv_iload_n hx hb dX6_hopping_84 rfl (lv_at hl 1 rfl) ?_
          refine lv_iconst (v := 4) hx hb dX6_hopping_85 (by decide) ?_
          obtain ⟨k95_47, hk95_47, hs⟩ := jn_ex hs
          have Ek95_47 : ∀ (H : Heap) (locs : List Loc) (ls : Array Slot), k95_47 → mI D dT A s.heap h ad S40 H locs → lv_has ls 5 [(1, .int a1), (3, .int v1), (4, .int x47)] → W p l e (mRm 1 21) s m args below meth c H locs 0 0 (MQ below (mQi D dT h ad K A) args s 0 0 A) (F0 m 95 ls []) := by
            intro H locs ls hs hM hl
            rw [hk95_47] at hs
            refine lv_iload hx hb dX6_hopping_95 (lv_at hl 2 rfl) ?_
            refine lv_iload_n hx hb dX6_hopping_97 rfl (lv_at hl 0 rfl) ?_
            refine lv_isub hx hb dX6_hopping_98 ?_
            refine lv_istore (lv' := [(4, .int (x47 - a1)), (1, .int a1), (3, .int v1)]) hx hb dX6_hopping_99 hl (by decide) rfl (fun ls hl => ?_)
            refine lv_iload_n hx hb dX6_hopping_101 rfl (lv_at hl 2 rfl) ?_
            refine lv_bipush (v := 6) hx hb dX6_hopping_102 (by decide) ?_
            refine lv_icmp_ne (tgt := 114) hx hb dX6_hopping_104 (by decide) (fun c47 => ?_) (fun c47 => ?_)
            · replace hs := ifn c47 hs
              refine lv_iload hx hb dX6_hopping_114 (lv_at hl 0 rfl) ?_
              exact m_reti X hK hM hs dX6_hopping_116
            · replace hs := ifp c47 hs
              refine lv_iload hx hb dX6_hopping_107 (lv_at hl 0 rfl) ?_
              refine lv_iconst (v := 2) hx hb dX6_hopping_109 (by decide) ?_
              refine lv_imul hx hb dX6_hopping_110 ?_
              refine lv_goto (tgt := 116) hx hb dX6_hopping_111 (by decide) ?_
              exact m_reti X hK hM hs dX6_hopping_116
          obtain ⟨k101_49, hk101_49, hs⟩ := jn_ex hs
          have Ek101_49 : ∀ (x49 : Int32) (H : Heap) (locs : List Loc) (ls : Array Slot), k101_49 x49 → mI D dT A s.heap h ad S40 H locs → lv_has ls 5 [(3, .int v1), (4, .int x49)] → W p l e (mRm 1 21) s m args below meth c H locs 0 0 (MQ below (mQi D dT h ad K A) args s 0 0 A) (F0 m 101 ls []) := by
            intro x49 H locs ls hs hM hl
            rw [hk101_49] at hs
            refine lv_iload_n hx hb dX6_hopping_101 rfl (lv_at hl 0 rfl) ?_
            refine lv_bipush (v := 6) hx hb dX6_hopping_102 (by decide) ?_
            refine lv_icmp_ne (tgt := 114) hx hb dX6_hopping_104 (by decide) (fun c49 => ?_) (fun c49 => ?_)
            · replace hs := ifn c49 hs
              refine lv_iload hx hb dX6_hopping_114 (lv_at hl 1 rfl) ?_
              exact m_reti X hK hM hs dX6_hopping_116
            · replace hs := ifp c49 hs
              refine lv_iload hx hb dX6_hopping_107 (lv_at hl 1 rfl) ?_
              refine lv_iconst (v := 2) hx hb dX6_hopping_109 (by decide) ?_
              refine lv_imul hx hb dX6_hopping_110 ?_
              refine lv_goto (tgt := 116) hx hb dX6_hopping_111 (by decide) ?_
              exact m_reti X hK hM hs dX6_hopping_116
          refine lv_icmp_eq (tgt := 95) hx hb dX6_hopping_86 (by decide) (fun c51 => ?_) (fun c51 => ?_)
          · replace hs := ifp c51 hs
            exact Ek95_47 _ _ _ hs hM hl
          · replace hs := ifn c51 hs
            refine lv_iload_n hx hb dX6_hopping_89 rfl (lv_at hl 1 rfl) ?_
            refine lv_bipush (v := 6) hx hb dX6_hopping_90 (by decide) ?_
            refine lv_icmp_ne (tgt := 101) hx hb dX6_hopping_92 (by decide) (fun c50 => ?_) (fun c50 => ?_)
            · replace hs := ifn c50 hs
              exact Ek101_49 _ _ _ _ hs hM (lv_sub hl [1, 2] rfl)
            · replace hs := ifp c50 hs
              exact Ek95_47 _ _ _ hs hM hl
        refine lv_icmp_eq (tgt := 73) hx hb dX6_hopping_65 (by decide) (fun c53 => ?_) (fun c53 => ?_)
        · replace hs := ifp c53 hs
          exact Ek73_40 _ _ _ hs hM (lv_sub hl [1, 2, 4, 0] rfl)
        · replace hs := ifn c53 hs
          refine lv_iload_n hx hb dX6_hopping_68 rfl (lv_at hl 4 rfl) ?_
          refine lv_iconst (v := 3) hx hb dX6_hopping_69 (by decide) ?_
          refine lv_icmp_ne (tgt := 84) hx hb dX6_hopping_70 (by decide) (fun c52 => ?_) (fun c52 => ?_)
          · replace hs := ifn c52 hs
            exact Ek84_47 _ _ _ _ hs hM (lv_sub hl [2, 4, 0] rfl)
          · replace hs := ifp c52 hs
            exact Ek73_40 _ _ _ hs hM (lv_sub hl [1, 2, 4, 0] rfl)
      obtain ⟨k52_55, hk52_55, hs⟩ := jn_ex hs
      have Ek52_55 : ∀ (S55 : MS) (H : Heap) (locs : List Loc) (ls : Array Slot), k52_55 S55 → mI D dT A s.heap h ad S55 H locs → lv_has ls 5 [(0, .ref h), (1, .int a1), (2, .int a2), (3, .int v1)] → W p l e (mRm 1 21) s m args below meth c H locs 0 0 (MQ below (mQi D dT h ad K A) args s 0 0 A) (F0 m 52 ls []) := by
        intro S55 H locs ls hs hM hl
        rw [hk52_55] at hs
        refine lv_aload_n hx hb dX6_hopping_52 rfl (lv_at hl 0 rfl) ?_
        refine lv_bipush (v := 10) hx hb dX6_hopping_53 (by decide) ?_
        refine m_callv (rest := []) (av := fun ad => [.int 10]) X hK hA hM (met_body l 10 _ _ hs) iX6_body q2003 ⟨Nat.le_of_ble_eq_true rfl, Nat.le_of_ble_eq_true rfl⟩ rfl hl.1 rfl (Nat.le_of_ble_eq_true rfl) dX6_hopping_55 (fun S56 H locs hs hM => ?_)
        refine lv_iload_n hx hb dX6_hopping_58 rfl (lv_at hl 2 rfl) ?_
        refine lv_iload_n hx hb dX6_hopping_59 rfl (lv_at hl 1 rfl) ?_
        refine lv_iadd hx hb dX6_hopping_60 ?_
        refine lv_istore (lv' := [(4, .int (a2 + a1)), (0, .ref h), (1, .int a1), (2, .int a2), (3, .int v1)]) hx hb dX6_hopping_61 hl (by decide) rfl (fun ls hl => ?_)
        refine lv_iload_n hx hb dX6_hopping_63 rfl (lv_at hl 4 rfl) ?_
        refine lv_iconst (v := 1) hx hb dX6_hopping_64 (by decide) ?_
        obtain ⟨k73_56, hk73_56, hs⟩ := jn_ex hs
        have Ek73_56 : ∀ (H : Heap) (locs : List Loc) (ls : Array Slot), k73_56 → mI D dT A s.heap h ad S56 H locs → lv_has ls 5 [(0, .ref h), (1, .int a1), (3, .int v1), (4, .int (a2 + a1))] → W p l e (mRm 1 21) s m args below meth c H locs 0 0 (MQ below (mQi D dT h ad K A) args s 0 0 A) (F0 m 73 ls []) := by
          intro H locs ls hs hM hl
          rw [hk73_56] at hs
          refine lv_iload hx hb dX6_hopping_73 (lv_at hl 3 rfl) ?_
          refine lv_aload_n hx hb dX6_hopping_75 rfl (lv_at hl 0 rfl) ?_
          refine m_geti (v := .ref (ad 12)) X hK hM 12 q1488 rfl rfl rfl dX6_hopping_76 ?_
          refine lv_iload_n hx hb dX6_hopping_79 rfl (lv_at hl 1 rfl) ?_
          obtain ⟨v57, ev57, hs⟩ := hs
          refine m_iald X hK hM rfl ev57 dX6_hopping_80 ?_
          refine lv_iadd hx hb dX6_hopping_81 ?_
          refine lv_istore (lv' := [(4, .int ((a2 + a1) + v57)), (0, .ref h), (1, .int a1), (3, .int v1)]) hx hb dX6_hopping_82 hl (by decide) rfl (fun ls hl => ?_)
          refine lv_iload_n hx hb dX6_hopping_84 rfl (lv_at hl 3 rfl) ?_
          refine lv_iconst (v := 4) hx hb dX6_hopping_85 (by decide) ?_
          obtain ⟨k95_57, hk95_57, hs⟩ := jn_ex hs
          have Ek95_57 : ∀ (H : Heap) (locs : List Loc) (ls : Array Slot), k95_57 → mI D dT A s.heap h ad S56 H locs → lv_has ls 5 [(1, .int a1), (3, .int v1), (4, .int ((a2 + a1) + v57))] → W p l e (mRm 1 21) s m args below meth c H locs 0 0 (MQ below (mQi D dT h ad K A) args s 0 0 A) (F0 m 95 ls []) := by
            intro H locs ls hs hM hl
            rw [hk95_57] at hs
            refine lv_iload hx hb dX6_hopping_95 (lv_at hl 2 rfl) ?_
            refine lv_iload_n hx hb dX6_hopping_97 rfl (lv_at hl 0 rfl) ?_
            refine lv_isub hx hb dX6_hopping_98 ?_
            refine lv_istore (lv' := [(4, .int (((a2 + a1) + v57) - a1)), (1, .int a1), (3, .int v1)]) hx hb dX6_hopping_99 hl (by decide) rfl (fun ls hl => ?_)
            refine lv_iload_n hx hb dX6_hopping_101 rfl (lv_at hl 2 rfl) ?_
            refine lv_bipush (v := 6) hx hb dX6_hopping_102 (by decide) ?_
            refine lv_icmp_ne (tgt := 114) hx hb dX6_hopping_104 (by decide) (fun c57 => ?_) (fun c57 => ?_)
            · replace hs := ifn c57 hs
              refine lv_iload hx hb dX6_hopping_114 (lv_at hl 0 rfl) ?_
              exact m_reti X hK hM hs dX6_hopping_116
            · replace hs := ifp c57 hs
              refine lv_iload hx hb dX6_hopping_107 (lv_at hl 0 rfl) ?_
              refine lv_iconst (v := 2) hx hb dX6_hopping_109 (by decide) ?_
              refine lv_imul hx hb dX6_hopping_110 ?_
              refine lv_goto (tgt := 116) hx hb dX6_hopping_111 (by decide) ?_
              exact m_reti X hK hM hs dX6_hopping_116
          obtain ⟨k101_59, hk101_59, hs⟩ := jn_ex hs
          have Ek101_59 : ∀ (x59 : Int32) (H : Heap) (locs : List Loc) (ls : Array Slot), k101_59 x59 → mI D dT A s.heap h ad S56 H locs → lv_has ls 5 [(3, .int v1), (4, .int x59)] → W p l e (mRm 1 21) s m args below meth c H locs 0 0 (MQ below (mQi D dT h ad K A) args s 0 0 A) (F0 m 101 ls []) := by
            intro x59 H locs ls hs hM hl
            rw [hk101_59] at hs
            refine lv_iload_n hx hb dX6_hopping_101 rfl (lv_at hl 0 rfl) ?_
            refine lv_bipush (v := 6) hx hb dX6_hopping_102 (by decide) ?_
            refine lv_icmp_ne (tgt := 114) hx hb dX6_hopping_104 (by decide) (fun c59 => ?_) (fun c59 => ?_)
            · replace hs := ifn c59 hs
              refine lv_iload hx hb dX6_hopping_114 (lv_at hl 1 rfl) ?_
              exact m_reti X hK hM hs dX6_hopping_116
            · replace hs := ifp c59 hs
              refine lv_iload hx hb dX6_hopping_107 (lv_at hl 1 rfl) ?_
              refine lv_iconst (v := 2) hx hb dX6_hopping_109 (by decide) ?_
              refine lv_imul hx hb dX6_hopping_110 ?_
              refine lv_goto (tgt := 116) hx hb dX6_hopping_111 (by decide) ?_
              exact m_reti X hK hM hs dX6_hopping_116
          refine lv_icmp_eq (tgt := 95) hx hb dX6_hopping_86 (by decide) (fun c61 => ?_) (fun c61 => ?_)
          · replace hs := ifp c61 hs
            exact Ek95_57 _ _ _ hs hM (lv_sub hl [2, 3, 0] rfl)
          · replace hs := ifn c61 hs
            refine lv_iload_n hx hb dX6_hopping_89 rfl (lv_at hl 3 rfl) ?_
            refine lv_bipush (v := 6) hx hb dX6_hopping_90 (by decide) ?_
            refine lv_icmp_ne (tgt := 101) hx hb dX6_hopping_92 (by decide) (fun c60 => ?_) (fun c60 => ?_)
            · replace hs := ifn c60 hs
              exact Ek101_59 _ _ _ _ hs hM (lv_sub hl [3, 0] rfl)
            · replace hs := ifp c60 hs
              exact Ek95_57 _ _ _ hs hM (lv_sub hl [2, 3, 0] rfl)
        obtain ⟨k84_63, hk84_63, hs⟩ := jn_ex hs
        have Ek84_63 : ∀ (x63 : Int32) (H : Heap) (locs : List Loc) (ls : Array Slot), k84_63 x63 → mI D dT A s.heap h ad S56 H locs → lv_has ls 5 [(1, .int a1), (3, .int v1), (4, .int x63)] → W p l e (mRm 1 21) s m args below meth c H locs 0 0 (MQ below (mQi D dT h ad K A) args s 0 0 A) (F0 m 84 ls []) := by
          intro x63 H locs ls hs hM hl
          rw [hk84_63] at hs
          refine lv_iload_n hx hb dX6_hopping_84 rfl (lv_at hl 1 rfl) ?_
          refine lv_iconst (v := 4) hx hb dX6_hopping_85 (by decide) ?_
          obtain ⟨k95_63, hk95_63, hs⟩ := jn_ex hs
          have Ek95_63 : ∀ (H : Heap) (locs : List Loc) (ls : Array Slot), k95_63 → mI D dT A s.heap h ad S56 H locs → lv_has ls 5 [(1, .int a1), (3, .int v1), (4, .int x63)] → W p l e (mRm 1 21) s m args below meth c H locs 0 0 (MQ below (mQi D dT h ad K A) args s 0 0 A) (F0 m 95 ls []) := by
            intro H locs ls hs hM hl
            rw [hk95_63] at hs
            refine lv_iload hx hb dX6_hopping_95 (lv_at hl 2 rfl) ?_
            refine lv_iload_n hx hb dX6_hopping_97 rfl (lv_at hl 0 rfl) ?_
            refine lv_isub hx hb dX6_hopping_98 ?_
            refine lv_istore (lv' := [(4, .int (x63 - a1)), (1, .int a1), (3, .int v1)]) hx hb dX6_hopping_99 hl (by decide) rfl (fun ls hl => ?_)
            refine lv_iload_n hx hb dX6_hopping_101 rfl (lv_at hl 2 rfl) ?_
            refine lv_bipush (v := 6) hx hb dX6_hopping_102 (by decide) ?_
            refine lv_icmp_ne (tgt := 114) hx hb dX6_hopping_104 (by decide) (fun c63 => ?_) (fun c63 => ?_)
            · replace hs := ifn c63 hs
              refine lv_iload hx hb dX6_hopping_114 (lv_at hl 0 rfl) ?_
              exact m_reti X hK hM hs dX6_hopping_116
            · replace hs := ifp c63 hs
              refine lv_iload hx hb dX6_hopping_107 (lv_at hl 0 rfl) ?_
              refine lv_iconst (v := 2) hx hb dX6_hopping_109 (by decide) ?_
              refine lv_imul hx hb dX6_hopping_110 ?_
              refine lv_goto (tgt := 116) hx hb dX6_hopping_111 (by decide) ?_
              exact m_reti X hK hM hs dX6_hopping_116
          obtain ⟨k101_65, hk101_65, hs⟩ := jn_ex hs
          have Ek101_65 : ∀ (x65 : Int32) (H : Heap) (locs : List Loc) (ls : Array Slot), k101_65 x65 → mI D dT A s.heap h ad S56 H locs → lv_has ls 5 [(3, .int v1), (4, .int x65)] → W p l e (mRm 1 21) s m args below meth c H locs 0 0 (MQ below (mQi D dT h ad K A) args s 0 0 A) (F0 m 101 ls []) := by
            intro x65 H locs ls hs hM hl
            rw [hk101_65] at hs
            refine lv_iload_n hx hb dX6_hopping_101 rfl (lv_at hl 0 rfl) ?_
            refine lv_bipush (v := 6) hx hb dX6_hopping_102 (by decide) ?_
            refine lv_icmp_ne (tgt := 114) hx hb dX6_hopping_104 (by decide) (fun c65 => ?_) (fun c65 => ?_)
            · replace hs := ifn c65 hs
              refine lv_iload hx hb dX6_hopping_114 (lv_at hl 1 rfl) ?_
              exact m_reti X hK hM hs dX6_hopping_116
            · replace hs := ifp c65 hs
              refine lv_iload hx hb dX6_hopping_107 (lv_at hl 1 rfl) ?_
              refine lv_iconst (v := 2) hx hb dX6_hopping_109 (by decide) ?_
              refine lv_imul hx hb dX6_hopping_110 ?_
              refine lv_goto (tgt := 116) hx hb dX6_hopping_111 (by decide) ?_
              exact m_reti X hK hM hs dX6_hopping_116
          refine lv_icmp_eq (tgt := 95) hx hb dX6_hopping_86 (by decide) (fun c67 => ?_) (fun c67 => ?_)
          · replace hs := ifp c67 hs
            exact Ek95_63 _ _ _ hs hM hl
          · replace hs := ifn c67 hs
            refine lv_iload_n hx hb dX6_hopping_89 rfl (lv_at hl 1 rfl) ?_
            refine lv_bipush (v := 6) hx hb dX6_hopping_90 (by decide) ?_
            refine lv_icmp_ne (tgt := 101) hx hb dX6_hopping_92 (by decide) (fun c66 => ?_) (fun c66 => ?_)
            · replace hs := ifn c66 hs
              exact Ek101_65 _ _ _ _ hs hM (lv_sub hl [1, 2] rfl)
            · replace hs := ifp c66 hs
              exact Ek95_63 _ _ _ hs hM hl
        refine lv_icmp_eq (tgt := 73) hx hb dX6_hopping_65 (by decide) (fun c69 => ?_) (fun c69 => ?_)
        · replace hs := ifp c69 hs
          exact Ek73_56 _ _ _ hs hM (lv_sub hl [1, 2, 4, 0] rfl)
        · replace hs := ifn c69 hs
          refine lv_iload_n hx hb dX6_hopping_68 rfl (lv_at hl 4 rfl) ?_
          refine lv_iconst (v := 3) hx hb dX6_hopping_69 (by decide) ?_
          refine lv_icmp_ne (tgt := 84) hx hb dX6_hopping_70 (by decide) (fun c68 => ?_) (fun c68 => ?_)
          · replace hs := ifn c68 hs
            exact Ek84_63 _ _ _ _ hs hM (lv_sub hl [2, 4, 0] rfl)
          · replace hs := ifp c68 hs
            exact Ek73_56 _ _ _ hs hM (lv_sub hl [1, 2, 4, 0] rfl)
      refine lv_icmp_eq (tgt := 46) hx hb dX6_hopping_38 (by decide) (fun c71 => ?_) (fun c71 => ?_)
      · replace hs := ifp c71 hs
        exact Ek46_38 _ _ _ hs hM hl
      · replace hs := ifn c71 hs
        refine lv_iload_n hx hb dX6_hopping_41 rfl (lv_at hl 3 rfl) ?_
        refine lv_iconst (v := 3) hx hb dX6_hopping_42 (by decide) ?_
        refine lv_icmp_ne (tgt := 52) hx hb dX6_hopping_43 (by decide) (fun c70 => ?_) (fun c70 => ?_)
        · replace hs := ifn c70 hs
          exact Ek52_55 _ _ _ _ hs hM hl
        · replace hs := ifp c70 hs
          exact Ek46_38 _ _ _ hs hM hl
    refine lv_icmp_eq (tgt := 30) hx hb dX6_hopping_21 (by decide) (fun c73 => ?_) (fun c73 => ?_)
    · replace hs := ifp c73 hs
      exact Ek30_2 _ _ _ hs hM hl
    · replace hs := ifn c73 hs
      refine lv_iload_n hx hb dX6_hopping_24 rfl (lv_at hl 3 rfl) ?_
      refine lv_bipush (v := 6) hx hb dX6_hopping_25 (by decide) ?_
      refine lv_icmp_ne (tgt := 36) hx hb dX6_hopping_27 (by decide) (fun c72 => ?_) (fun c72 => ?_)
      · replace hs := ifn c72 hs
        exact Ek36_38 _ _ _ _ hs hM hl
      · replace hs := ifp c72 hs
        exact Ek30_2 _ _ _ hs hM hl
  refine lv_icmp_ne (tgt := 19) hx hb dX6_hopping_10 (by decide) (fun c75 => ?_) (fun c75 => ?_)
  · replace hs := ifn c75 hs
    exact Ek19_2 _ _ _ _ hs hM (lv_sub hl [1, 2, 3, 0] rfl)
  · replace hs := ifp c75 hs
    refine lv_aload_n hx hb dX6_hopping_13 rfl (lv_at hl 1 rfl) ?_
    refine lv_bipush (v := 70) hx hb dX6_hopping_14 (by decide) ?_
    refine m_callv (rest := []) (av := fun ad => [.int 70]) X hK hA hM (met_body l 70 _ _ hs) iX6_body q2003 ⟨Nat.le_of_ble_eq_true rfl, Nat.le_of_ble_eq_true rfl⟩ rfl hl.1 rfl (Nat.le_of_ble_eq_true rfl) dX6_hopping_16 (fun S75 H locs hs hM => ?_)
    exact Ek19_2 _ _ _ _ hs hM (lv_sub hl [1, 2, 3, 0] rfl)
