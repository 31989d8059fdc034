set_option maxRecDepth 100000
def m_legs_l38 (a1 : Int32) (a2 : Int32) (k78_5 : Int32 → MS → Prop) : Nat → Int32 → Int32 → MS → Prop
  | 0, _, _, _ => False
  | n38_10 + 1, x8, x9, S10 => (if 10 ≤ x9 then k78_5 x8 S10 else (if x8 = (-1) then obd (mast S10 13 a1 x9) (fun S12 => m_inOf a1 S12 (fun r14 S13 => jn (fun (x15 : Int32) => m_legs_l38 a1 a2 k78_5 n38_10 x15 (x9 + 1) S13) (fun k72_15 => (if a2 < r14 then k72_15 x8 else k72_15 x9)))) else k78_5 x8 S10))
theorem m_legs_l38_s (a1 : Int32) (a2 : Int32) (k78_5 : Int32 → MS → Prop) (n38_10 : Nat) (x8 : Int32) (x9 : Int32) (S10 : MS) : m_legs_l38 a1 a2 k78_5 (n38_10 + 1) x8 x9 S10 = ((if 10 ≤ x9 then k78_5 x8 S10 else (if x8 = (-1) then obd (mast S10 13 a1 x9) (fun S12 => m_inOf a1 S12 (fun r14 S13 => jn (fun (x15 : Int32) => m_legs_l38 a1 a2 k78_5 n38_10 x15 (x9 + 1) S13) (fun k72_15 => (if a2 < r14 then k72_15 x8 else k72_15 x9)))) else k78_5 x8 S10))) := rfl
def m_legs (a1 : Int32) (a2 : Int32) (S : MS) (K : Int32 → MS → Prop) : Prop := m_isChild a1 S (fun r2 S1 => (if r2 = 0 then m_noTen (-1) S1 (fun r23 S22 => K r23 S22) else (if 0 ≤ a2 then obd (mald S1 13 a1) (fun v3 => jn (fun (x4 : Int32) (S5 : MS) => obd (mast S5 13 a1 v3) (fun S7 => K x4 S7)) (fun k78_5 => m_legs_l38 a1 a2 k78_5 NF (-1) 1 S1)) else m_noTen (-6) S1 (fun r20 S19 => K r20 S19))))
theorem iX6_legs : mInf yX6_legs cX6_legs 6 (some .int) 2 := ⟨q1947, q1948, q1949, by decide +kernel⟩
set_option maxHeartbeats 4000000 in
theorem met_legs (l : Launch) (a1 : Int32) (a2 : Int32) (S : MS) (K : Int32 → MS → Prop) (hs : m_legs a1 a2 S K) : mMeti l yX6_legs cX6_legs 6 7 144 S (fun ad => [.int a1, .int a2]) K := by
  intro D dT h ad sz
  refine mEnter (Qc := mQi D dT h ad K) (by decide) rfl (by rfl) ?_
  intro p e s m args below meth c A ls X hK hA hM hl
  have hx := X.1
  have hb := X.2.1
  have hts := X.2.2.2.2.1
  have hown := X.2.2.2.2.2.1
  have hl : lv_has ls 6 [(0, .ref h), (1, .int a1), (2, .int a2)] := hl
  unfold m_legs at hs
  refine lv_aload_n hx hb dX6_legs_0 rfl (lv_at hl 0 rfl) ?_
  refine lv_iload_n hx hb dX6_legs_1 rfl (lv_at hl 1 rfl) ?_
  refine m_callz (rest := []) (av := fun ad => [.int a1]) X hK hA hM (met_isChild l a1 _ _ hs) iX6_isChild q1682 ⟨Nat.le_of_ble_eq_true rfl, Nat.le_of_ble_eq_true rfl⟩ rfl hl.1 rfl (Nat.le_of_ble_eq_true rfl) dX6_legs_2 (fun r2 S1 H locs br2 hs hM => ?_)
  refine lv_if_ne (tgt := 14) hx hb dX6_legs_5 (by decide) (fun c23 => ?_) (fun c23 => ?_)
  · replace hs := ifn c23 hs
    refine lv_iload_n hx hb dX6_legs_14 rfl (lv_at hl 2 rfl) ?_
    refine lv_if_ge (tgt := 25) hx hb dX6_legs_15 (by decide) (fun c20 => ?_) (fun c20 => ?_)
    · replace hs := ifp c20 hs
      refine lv_aload_n hx hb dX6_legs_25 rfl (lv_at hl 0 rfl) ?_
      refine m_geti (v := .ref (ad 13)) X hK hM 13 q1489 rfl rfl rfl dX6_legs_26 ?_
      refine lv_iload_n hx hb dX6_legs_29 rfl (lv_at hl 1 rfl) ?_
      obtain ⟨v3, ev3, hs⟩ := hs
      refine m_iald X hK hM rfl ev3 dX6_legs_30 ?_
      refine lv_istore_n (lv' := [(3, .int v3), (0, .ref h), (1, .int a1), (2, .int a2)]) hx hb dX6_legs_31 rfl hl (by decide) rfl (fun ls hl => ?_)
      refine lv_iconst (v := (-1)) hx hb dX6_legs_32 (by decide) ?_
      refine lv_istore (lv' := [(4, .int (-1)), (3, .int v3), (0, .ref h), (1, .int a1), (2, .int a2)]) hx hb dX6_legs_33 hl (by decide) rfl (fun ls hl => ?_)
      refine lv_iconst (v := 1) hx hb dX6_legs_35 (by decide) ?_
      refine lv_istore (lv' := [(5, .int 1), (4, .int (-1)), (3, .int v3), (0, .ref h), (1, .int a1), (2, .int a2)]) hx hb dX6_legs_36 hl (by decide) rfl (fun ls hl => ?_)
      obtain ⟨k78_5, hk78_5, hs⟩ := jn_ex hs
      have Ek78_5 : ∀ (x4 : Int32) (S5 : MS) (H : Heap) (locs : List Loc) (ls : Array Slot), k78_5 x4 S5 → mI D dT A s.heap h ad S5 H locs → lv_has ls 6 [(0, .ref h), (1, .int a1), (3, .int v3), (4, .int x4)] → W p l e (mRm 7 144) s m args below meth c H locs 0 0 (MQ below (mQi D dT h ad K A) args s 0 0 A) (F0 m 78 ls []) := by
        intro x4 S5 H locs ls hs hM hl
        rw [hk78_5] at hs
        refine lv_aload_n hx hb dX6_legs_78 rfl (lv_at hl 0 rfl) ?_
        refine m_geti (v := .ref (ad 13)) X hK hM 13 q1489 rfl rfl rfl dX6_legs_79 ?_
        refine lv_iload_n hx hb dX6_legs_82 rfl (lv_at hl 1 rfl) ?_
        refine lv_iload_n hx hb dX6_legs_83 rfl (lv_at hl 2 rfl) ?_
        obtain ⟨S7, eS7, hs⟩ := hs
        refine m_iast X hK hM rfl eS7 dX6_legs_84 (fun H locs hM => ?_)
        refine lv_iload hx hb dX6_legs_85 (lv_at hl 3 rfl) ?_
        exact m_reti X hK hM hs dX6_legs_87
      have Lm_legs_l38 : ∀ (n38_10 : Nat) (x8 : Int32) (x9 : Int32) (S10 : MS) (H : Heap) (locs : List Loc) (ls : Array Slot), m_legs_l38 a1 a2 k78_5 n38_10 x8 x9 S10 → mI D dT A s.heap h ad S10 H locs → lv_has ls 6 [(0, .ref h), (1, .int a1), (2, .int a2), (3, .int v3), (4, .int x8), (5, .int x9)] → W p l e (mRm 7 144) s m args below meth c H locs 0 0 (MQ below (mQi D dT h ad K A) args s 0 0 A) (F0 m 38 ls []) := by
        intro n38_10
        induction n38_10 with
        | zero =>
          intro x8 x9 S10 H locs ls hs
          exact False.elim hs
        | succ n38_10 ihm_legs_l38 =>
          intro x8 x9 S10 H locs ls hs hM hl
          rw [m_legs_l38_s] at hs
          refine lv_iload hx hb dX6_legs_38 (lv_at hl 5 rfl) ?_
          refine lv_bipush (v := 10) hx hb dX6_legs_40 (by decide) ?_
          refine lv_icmp_ge (tgt := 78) hx hb dX6_legs_42 (by decide) (fun c17 => ?_) (fun c17 => ?_)
          · replace hs := ifp c17 hs
            exact Ek78_5 _ _ _ _ _ hs hM (lv_sub hl [0, 1, 3, 4] rfl)
          · replace hs := ifn c17 hs
            refine lv_iload hx hb dX6_legs_45 (lv_at hl 4 rfl) ?_
            refine lv_iconst (v := (-1)) hx hb dX6_legs_47 (by decide) ?_
            refine lv_icmp_ne (tgt := 78) hx hb dX6_legs_48 (by decide) (fun c16 => ?_) (fun c16 => ?_)
            · replace hs := ifn c16 hs
              exact Ek78_5 _ _ _ _ _ hs hM (lv_sub hl [0, 1, 3, 4] rfl)
            · replace hs := ifp c16 hs
              refine lv_aload_n hx hb dX6_legs_51 rfl (lv_at hl 0 rfl) ?_
              refine m_geti (v := .ref (ad 13)) X hK hM 13 q1489 rfl rfl rfl dX6_legs_52 ?_
              refine lv_iload_n hx hb dX6_legs_55 rfl (lv_at hl 1 rfl) ?_
              refine lv_iload hx hb dX6_legs_56 (lv_at hl 5 rfl) ?_
              obtain ⟨S12, eS12, hs⟩ := hs
              refine m_iast X hK hM rfl eS12 dX6_legs_58 (fun H locs hM => ?_)
              refine lv_aload_n hx hb dX6_legs_59 rfl (lv_at hl 0 rfl) ?_
              refine lv_iload_n hx hb dX6_legs_60 rfl (lv_at hl 1 rfl) ?_
              refine m_calli (rest := []) (av := fun ad => [.int a1]) X hK hA hM (met_inOf l a1 _ _ hs) iX6_inOf q1858 ⟨Nat.le_of_ble_eq_true rfl, Nat.le_of_ble_eq_true rfl⟩ rfl hl.1 rfl (Nat.le_of_ble_eq_true rfl) dX6_legs_61 (fun r14 S13 H locs hs hM => ?_)
              refine lv_iload_n hx hb dX6_legs_64 rfl (lv_at hl 2 rfl) ?_
              obtain ⟨k72_15, hk72_15, hs⟩ := jn_ex hs
              have Ek72_15 : ∀ (x15 : Int32) (H : Heap) (locs : List Loc) (ls : Array Slot), k72_15 x15 → mI D dT A s.heap h ad S13 H locs → lv_has ls 6 [(0, .ref h), (1, .int a1), (2, .int a2), (3, .int v3), (4, .int x15), (5, .int x9)] → W p l e (mRm 7 144) s m args below meth c H locs 0 0 (MQ below (mQi D dT h ad K A) args s 0 0 A) (F0 m 72 ls []) := by
                intro x15 H locs ls hs hM hl
                rw [hk72_15] at hs
                refine lv_iinc (v := (x9 + 1)) (lv' := [(5, .int (x9 + 1)), (0, .ref h), (1, .int a1), (2, .int a2), (3, .int v3), (4, .int x15)]) hx hb dX6_legs_72 hl (k := 5) rfl (congrArg (fun z => x9 + z) (show Int32.ofInt (1) = 1 by decide)) (by decide) rfl (fun ls hl => ?_)
                refine lv_goto (tgt := 38) hx hb dX6_legs_75 (by decide) ?_
                exact ihm_legs_l38 _ _ _ _ _ _ hs hM (lv_sub hl [1, 2, 3, 4, 5, 0] rfl)
              refine lv_icmp_gt (tgt := 72) hx hb dX6_legs_65 (by decide) (fun c15 => ?_) (fun c15 => ?_)
              · replace hs := ifp c15 hs
                exact Ek72_15 _ _ _ _ hs hM hl
              · replace hs := ifn c15 hs
                refine lv_iload hx hb dX6_legs_68 (lv_at hl 5 rfl) ?_
                refine lv_istore (lv' := [(4, .int x9), (0, .ref h), (1, .int a1), (2, .int a2), (3, .int v3), (5, .int x9)]) hx hb dX6_legs_70 hl (by decide) rfl (fun ls hl => ?_)
                exact Ek72_15 _ _ _ _ hs hM (lv_sub hl [1, 2, 3, 4, 0, 5] rfl)
      exact Lm_legs_l38 NF _ _ _ _ _ _ hs hM (lv_sub hl [3, 4, 5, 2, 1, 0] rfl)
    · replace hs := ifn c20 hs
      refine lv_aload_n hx hb dX6_legs_18 rfl (lv_at hl 0 rfl) ?_
      refine lv_bipush (v := (-6)) hx hb dX6_legs_19 (by decide) ?_
      refine m_calli (rest := []) (av := fun ad => [.int (-6)]) X hK hA hM (met_noTen l (-6) _ _ hs) iX6_noTen q1934 ⟨Nat.le_of_ble_eq_true rfl, Nat.le_of_ble_eq_true rfl⟩ rfl hl.1 rfl (Nat.le_of_ble_eq_true rfl) dX6_legs_21 (fun r20 S19 H locs hs hM => ?_)
      exact m_reti X hK hM hs dX6_legs_24
  · replace hs := ifp c23 hs
    refine lv_aload_n hx hb dX6_legs_8 rfl (lv_at hl 0 rfl) ?_
    refine lv_iconst (v := (-1)) hx hb dX6_legs_9 (by decide) ?_
    refine m_calli (rest := []) (av := fun ad => [.int (-1)]) X hK hA hM (met_noTen l (-1) _ _ hs) iX6_noTen q1934 ⟨Nat.le_of_ble_eq_true rfl, Nat.le_of_ble_eq_true rfl⟩ rfl hl.1 rfl (Nat.le_of_ble_eq_true rfl) dX6_legs_10 (fun r23 S22 H locs hs hM => ?_)
    exact m_reti X hK hM hs dX6_legs_13
def m_wall_l25 (K : Int32 → MS → Prop) : Nat → Int32 → MS → Prop
  | 0, _, _ => False
  | n25_6 + 1, x5, S6 => (if 999 ≤ x5 then K (-1) S6 else (if (S6.1 2) ≤ (S6.1 42) then K (-1) S6 else m_second  S6 (fun S8 => (if (S8.1 46) ≤ 0 then m_wall_l25 K n25_6 (x5 + 1) S8 else K (S8.1 42) S8))))
theorem m_wall_l25_s (K : Int32 → MS → Prop) (n25_6 : Nat) (x5 : Int32) (S6 : MS) : m_wall_l25 K (n25_6 + 1) x5 S6 = ((if 999 ≤ x5 then K (-1) S6 else (if (S6.1 2) ≤ (S6.1 42) then K (-1) S6 else m_second  S6 (fun S8 => (if (S8.1 46) ≤ 0 then m_wall_l25 K n25_6 (x5 + 1) S8 else K (S8.1 42) S8))))) := rfl
def m_wall (a1 : Int32) (S : MS) (K : Int32 → MS → Prop) : Prop := m_isChild a1 S (fun r2 S1 => (if r2 = 0 then m_noTen (-1) S1 (fun r13 S12 => K r13 S12) else m_puts a1 S1 (fun S3 => m_starts  S3 (fun S4 => m_wall_l25 K NF 0 S4))))
theorem iX6_wall : mInf yX6_wall cX6_wall 3 (some .int) 1 := ⟨q1951, q1952, q1953, by decide +kernel⟩
set_option maxHeartbeats 4000000 in
theorem met_wall (l : Launch) (a1 : Int32) (S : MS) (K : Int32 → MS → Prop) (hs : m_wall a1 S K) : mMeti l yX6_wall cX6_wall 3 5 102 S (fun ad => [.int a1]) K := by
  intro D dT h ad sz
  refine mEnter (Qc := mQi D dT h ad K) (by decide) rfl (by rfl) ?_
  intro p e s m args below meth c A ls X hK hA hM hl
  have hx := X.1
  have hb := X.2.1
  have hts := X.2.2.2.2.1
  have hown := X.2.2.2.2.2.1
  have hl : lv_has ls 3 [(0, .ref h), (1, .int a1)] := hl
  unfold m_wall at hs
  refine lv_aload_n hx hb dX6_wall_0 rfl (lv_at hl 0 rfl) ?_
  refine lv_iload_n hx hb dX6_wall_1 rfl (lv_at hl 1 rfl) ?_
  refine m_callz (rest := []) (av := fun ad => [.int a1]) X hK hA hM (met_isChild l a1 _ _ hs) iX6_isChild q1682 ⟨Nat.le_of_ble_eq_true rfl, Nat.le_of_ble_eq_true rfl⟩ rfl hl.1 rfl (Nat.le_of_ble_eq_true rfl) dX6_wall_2 (fun r2 S1 H locs br2 hs hM => ?_)
  refine lv_if_ne (tgt := 14) hx hb dX6_wall_5 (by decide) (fun c13 => ?_) (fun c13 => ?_)
  · replace hs := ifn c13 hs
    refine lv_aload_n hx hb dX6_wall_14 rfl (lv_at hl 0 rfl) ?_
    refine lv_iload_n hx hb dX6_wall_15 rfl (lv_at hl 1 rfl) ?_
    refine m_callv (rest := []) (av := fun ad => [.int a1]) X hK hA hM (met_puts l a1 _ _ hs) iX6_puts q1694 ⟨Nat.le_of_ble_eq_true rfl, Nat.le_of_ble_eq_true rfl⟩ rfl hl.1 rfl (Nat.le_of_ble_eq_true rfl) dX6_wall_16 (fun S3 H locs hs hM => ?_)
    refine lv_aload_n hx hb dX6_wall_19 rfl (lv_at hl 0 rfl) ?_
    refine m_callv (rest := []) (av := fun ad => []) X hK hA hM (met_starts l  _ _ hs) iX6_starts q1830 ⟨Nat.le_of_ble_eq_true rfl, Nat.le_of_ble_eq_true rfl⟩ rfl hl.1 rfl (Nat.le_of_ble_eq_true rfl) dX6_wall_20 (fun S4 H locs hs hM => ?_)
    refine lv_iconst (v := 0) hx hb dX6_wall_23 (by decide) ?_
    refine lv_istore_n (lv' := [(2, .int 0), (0, .ref h), (1, .int a1)]) hx hb dX6_wall_24 rfl hl (by decide) rfl (fun ls hl => ?_)
    have Lm_wall_l25 : ∀ (n25_6 : Nat) (x5 : Int32) (S6 : MS) (H : Heap) (locs : List Loc) (ls : Array Slot), m_wall_l25 K n25_6 x5 S6 → mI D dT A s.heap h ad S6 H locs → lv_has ls 3 [(0, .ref h), (2, .int x5)] → W p l e (mRm 5 102) s m args below meth c H locs 0 0 (MQ below (mQi D dT h ad K A) args s 0 0 A) (F0 m 25 ls []) := by
      intro n25_6
      induction n25_6 with
      | zero =>
        intro x5 S6 H locs ls hs
        exact False.elim hs
      | succ n25_6 ihm_wall_l25 =>
        intro x5 S6 H locs ls hs hM hl
        rw [m_wall_l25_s] at hs
        refine lv_iload_n hx hb dX6_wall_25 rfl (lv_at hl 1 rfl) ?_
        refine lv_sipush (v := 999) hx hb dX6_wall_26 (by decide) ?_
        refine lv_icmp_ge (tgt := 65) hx hb dX6_wall_29 (by decide) (fun c10 => ?_) (fun c10 => ?_)
        · replace hs := ifp c10 hs
          refine lv_iconst (v := (-1)) hx hb dX6_wall_65 (by decide) ?_
          exact m_reti X hK hM hs dX6_wall_66
        · replace hs := ifn c10 hs
          refine lv_aload_n hx hb dX6_wall_32 rfl (lv_at hl 0 rfl) ?_
          refine m_geti (v := .int (S6.1 42)) X hK hM 42 q1518 rfl rfl rfl dX6_wall_33 ?_
          refine lv_aload_n hx hb dX6_wall_36 rfl (lv_at hl 0 rfl) ?_
          refine m_geti (v := .int (S6.1 2)) X hK hM 2 q1478 rfl rfl rfl dX6_wall_37 ?_
          refine lv_icmp_ge (tgt := 65) hx hb dX6_wall_40 (by decide) (fun c9 => ?_) (fun c9 => ?_)
          · replace hs := ifp c9 hs
            refine lv_iconst (v := (-1)) hx hb dX6_wall_65 (by decide) ?_
            exact m_reti X hK hM hs dX6_wall_66
          · replace hs := ifn c9 hs
            refine lv_aload_n hx hb dX6_wall_43 rfl (lv_at hl 0 rfl) ?_
            refine m_callv (rest := []) (av := fun ad => []) X hK hA hM (met_second l  _ _ hs) iX6_second q1834 ⟨Nat.le_of_ble_eq_true rfl, Nat.le_of_ble_eq_true rfl⟩ rfl hl.1 rfl (Nat.le_of_ble_eq_true rfl) dX6_wall_44 (fun S8 H locs hs hM => ?_)
            refine lv_aload_n hx hb dX6_wall_47 rfl (lv_at hl 0 rfl) ?_
            refine m_geti (v := .int (S8.1 46)) X hK hM 46 q1522 rfl rfl rfl dX6_wall_48 ?_
            refine lv_if_le (tgt := 59) hx hb dX6_wall_51 (by decide) (fun c8 => ?_) (fun c8 => ?_)
            · replace hs := ifp c8 hs
              refine lv_iinc (v := (x5 + 1)) (lv' := [(2, .int (x5 + 1)), (0, .ref h)]) hx hb dX6_wall_59 hl (k := 1) rfl (congrArg (fun z => x5 + z) (show Int32.ofInt (1) = 1 by decide)) (by decide) rfl (fun ls hl => ?_)
              refine lv_goto (tgt := 25) hx hb dX6_wall_62 (by decide) ?_
              exact ihm_wall_l25 _ _ _ _ _ hs hM (lv_sub hl [1, 0] rfl)
            · replace hs := ifn c8 hs
              refine lv_aload_n hx hb dX6_wall_54 rfl (lv_at hl 0 rfl) ?_
              refine m_geti (v := .int (S8.1 42)) X hK hM 42 q1518 rfl rfl rfl dX6_wall_55 ?_
              exact m_reti X hK hM hs dX6_wall_58
    exact Lm_wall_l25 NF _ _ _ _ _ hs hM (lv_sub hl [1, 0] rfl)
  · replace hs := ifp c13 hs
    refine lv_aload_n hx hb dX6_wall_8 rfl (lv_at hl 0 rfl) ?_
    refine lv_iconst (v := (-1)) hx hb dX6_wall_9 (by decide) ?_
    refine m_calli (rest := []) (av := fun ad => [.int (-1)]) X hK hA hM (met_noTen l (-1) _ _ hs) iX6_noTen q1934 ⟨Nat.le_of_ble_eq_true rfl, Nat.le_of_ble_eq_true rfl⟩ rfl hl.1 rfl (Nat.le_of_ble_eq_true rfl) dX6_wall_10 (fun r13 S12 H locs hs hM => ?_)
    exact m_reti X hK hM hs dX6_wall_13
def m_intAt (a1 : Int32) (a2 : Int32) (S : MS) (K : Int32 → MS → Prop) : Prop := obd (mlld S 23 ((160 * a1) + a2)) (fun v1 => K ((v1 : Int64).toInt32) S)
theorem iX6_intAt : mInf yX6_intAt cX6_intAt 3 (some .int) 2 := ⟨q1960, qs85, q1961, by decide +kernel⟩
set_option maxHeartbeats 4000000 in
theorem met_intAt (l : Launch) (a1 : Int32) (a2 : Int32) (S : MS) (K : Int32 → MS → Prop) (hs : m_intAt a1 a2 S K) : mMeti l yX6_intAt cX6_intAt 3 0 0 S (fun ad => [.int a1, .int a2]) K := by
  intro D dT h ad sz
  refine mEnter (Qc := mQi D dT h ad K) (by decide) rfl (by rfl) ?_
  intro p e s m args below meth c A ls X hK hA hM hl
  have hx := X.1
  have hb := X.2.1
  have hts := X.2.2.2.2.1
  have hown := X.2.2.2.2.2.1
  have hl : lv_has ls 3 [(0, .ref h), (1, .int a1), (2, .int a2)] := hl
  unfold m_intAt at hs
  refine lv_aload_n hx hb dX6_intAt_0 rfl (lv_at hl 0 rfl) ?_
  refine m_geti (v := .ref (ad 23)) X hK hM 23 q1499 rfl rfl rfl dX6_intAt_1 ?_
  refine lv_sipush (v := 160) hx hb dX6_intAt_4 (by decide) ?_
  refine lv_iload_n hx hb dX6_intAt_7 rfl (lv_at hl 1 rfl) ?_
  refine lv_imul hx hb dX6_intAt_8 ?_
  refine lv_iload_n hx hb dX6_intAt_9 rfl (lv_at hl 2 rfl) ?_
  refine lv_iadd hx hb dX6_intAt_10 ?_
  obtain ⟨v1, ev1, hs⟩ := hs
  refine m_lald X hK hM rfl ev1 dX6_intAt_11 ?_
  refine lv_l2i (v := ((v1 : Int64).toInt32)) hx hb dX6_intAt_12 rfl ?_
  exact m_reti X hK hM hs dX6_intAt_13
def m_judge_l66 (K : Int32 → MS → Prop) (a1 : Int32) (a2 : Int32) : Nat → Int32 → Int32 → Int32 → MS → Prop
  | 0, _, _, _, _ => False
  | n66_7 + 1, x4, x5, x6, S7 => (if a2 ≤ x6 then K (-1) S7 else m_intAt a1 x6 S7 (fun r10 S9 => m_isChild r10 S9 (fun r12 S11 => (if r12 = 0 then K x6 S11 else (if ((x4 >>> (r10 &&& 31)) &&& 1) = 1 then K x6 S11 else m_inOf r10 S11 (fun r14 S13 => (if x5 ≤ r14 then m_inOf r10 S13 (fun r16 S15 => m_judge_l66 K a1 a2 n66_7 (x4 ||| (1 <<< (r10 &&& 31))) r16 (x6 + 1) S15) else K x6 S13)))))))
theorem m_judge_l66_s (K : Int32 → MS → Prop) (a1 : Int32) (a2 : Int32) (n66_7 : Nat) (x4 : Int32) (x5 : Int32) (x6 : Int32) (S7 : MS) : m_judge_l66 K a1 a2 (n66_7 + 1) x4 x5 x6 S7 = ((if a2 ≤ x6 then K (-1) S7 else m_intAt a1 x6 S7 (fun r10 S9 => m_isChild r10 S9 (fun r12 S11 => (if r12 = 0 then K x6 S11 else (if ((x4 >>> (r10 &&& 31)) &&& 1) = 1 then K x6 S11 else m_inOf r10 S11 (fun r14 S13 => (if x5 ≤ r14 then m_inOf r10 S13 (fun r16 S15 => m_judge_l66 K a1 a2 n66_7 (x4 ||| (1 <<< (r10 &&& 31))) r16 (x6 + 1) S15) else K x6 S13)))))))) := rfl
def m_judge (a1 : Int32) (a2 : Int32) (S : MS) (K : Int32 → MS → Prop) : Prop := m_wanted a1 S (fun r2 S1 => jn (fun (x3 : Int32) => (if x3 = 0 then m_judge_l66 K a1 a2 NF 0 0 0 S1 else m_noTen x3 S1 (fun r22 S21 => K r22 S21))) (fun k47_3 => (if r2 = 0 then jn (fun (v24 : Int32) => k47_3 v24) (fun k46_24 => (if 0 ≤ a2 then obd (mald S1 21 a1) (fun v25 => (if a2 ≤ v25 then (if a2 ≤ 8 then k46_24 0 else k46_24 (-6)) else k46_24 (-5))) else k46_24 (-4))) else k47_3 r2)))
theorem iX6_judge : mInf yX6_judge cX6_judge 8 (some .int) 2 := ⟨q1955, q1956, q1957, by decide +kernel⟩
set_option maxHeartbeats 4000000 in
theorem met_judge (l : Launch) (a1 : Int32) (a2 : Int32) (S : MS) (K : Int32 → MS → Prop) (hs : m_judge a1 a2 S K) : mMeti l yX6_judge cX6_judge 8 7 144 S (fun ad => [.int a1, .int a2]) K := by
  intro D dT h ad sz
  refine mEnter (Qc := mQi D dT h ad K) (by decide) rfl (by rfl) ?_
  intro p e s m args below meth c A ls X hK hA hM hl
  have hx := X.1
  have hb := X.2.1
  have hts := X.2.2.2.2.1
  have hown := X.2.2.2.2.2.1
  have hl : lv_has ls 8 [(0, .ref h), (1, .int a1), (2, .int a2)] := hl
  unfold m_judge at hs
  refine lv_aload_n hx hb dX6_judge_0 rfl (lv_at hl 0 rfl) ?_
  refine lv_iload_n hx hb dX6_judge_1 rfl (lv_at hl 1 rfl) ?_
  refine m_calli (rest := []) (av := fun ad => [.int a1]) X hK hA hM (met_wanted l a1 _ _ hs) iX6_wanted q1782 ⟨Nat.le_of_ble_eq_true rfl, Nat.le_of_ble_eq_true rfl⟩ rfl hl.1 rfl (Nat.le_of_ble_eq_true rfl) dX6_judge_2 (fun r2 S1 H locs hs hM => ?_)
  refine lv_istore_n (lv' := [(3, .int r2), (0, .ref h), (1, .int a1), (2, .int a2)]) hx hb dX6_judge_5 rfl hl (by decide) rfl (fun ls hl => ?_)
  refine lv_iload_n hx hb dX6_judge_6 rfl (lv_at hl 0 rfl) ?_
  obtain ⟨k47_3, hk47_3, hs⟩ := jn_ex hs
  have Ek47_3 : ∀ (x3 : Int32) (H : Heap) (locs : List Loc) (ls : Array Slot), k47_3 x3 → mI D dT A s.heap h ad S1 H locs → lv_has ls 8 [(0, .ref h), (1, .int a1), (2, .int a2), (3, .int x3)] → W p l e (mRm 7 144) s m args below meth c H locs 0 0 (MQ below (mQi D dT h ad K A) args s 0 0 A) (F0 m 47 ls []) := by
    intro x3 H locs ls hs hM hl
    rw [hk47_3] at hs
    refine lv_iload_n hx hb dX6_judge_47 rfl (lv_at hl 3 rfl) ?_
    refine lv_if_eq (tgt := 57) hx hb dX6_judge_48 (by decide) (fun c22 => ?_) (fun c22 => ?_)
    · replace hs := ifp c22 hs
      refine lv_iconst (v := 0) hx hb dX6_judge_57 (by decide) ?_
      refine lv_istore (lv' := [(4, .int 0), (0, .ref h), (1, .int a1), (2, .int a2), (3, .int x3)]) hx hb dX6_judge_58 hl (by decide) rfl (fun ls hl => ?_)
      refine lv_iconst (v := 0) hx hb dX6_judge_60 (by decide) ?_
      refine lv_istore (lv' := [(5, .int 0), (4, .int 0), (0, .ref h), (1, .int a1), (2, .int a2), (3, .int x3)]) hx hb dX6_judge_61 hl (by decide) rfl (fun ls hl => ?_)
      refine lv_iconst (v := 0) hx hb dX6_judge_63 (by decide) ?_
      refine lv_istore (lv' := [(6, .int 0), (5, .int 0), (4, .int 0), (0, .ref h), (1, .int a1), (2, .int a2), (3, .int x3)]) hx hb dX6_judge_64 hl (by decide) rfl (fun ls hl => ?_)
      have Lm_judge_l66 : ∀ (n66_7 : Nat) (x4 : Int32) (x5 : Int32) (x6 : Int32) (S7 : MS) (H : Heap) (locs : List Loc) (ls : Array Slot), m_judge_l66 K a1 a2 n66_7 x4 x5 x6 S7 → mI D dT A s.heap h ad S7 H locs → lv_has ls 8 [(0, .ref h), (1, .int a1), (2, .int a2), (4, .int x4), (5, .int x5), (6, .int x6)] → W p l e (mRm 7 144) s m args below meth c H locs 0 0 (MQ below (mQi D dT h ad K A) args s 0 0 A) (F0 m 66 ls []) := by
        intro n66_7
        induction n66_7 with
        | zero =>
          intro x4 x5 x6 S7 H locs ls hs
          exact False.elim hs
        | succ n66_7 ihm_judge_l66 =>
          intro x4 x5 x6 S7 H locs ls hs hM hl
          rw [m_judge_l66_s] at hs
          refine lv_iload hx hb dX6_judge_66 (lv_at hl 5 rfl) ?_
          refine lv_iload_n hx hb dX6_judge_68 rfl (lv_at hl 2 rfl) ?_
          refine lv_icmp_ge (tgt := 138) hx hb dX6_judge_69 (by decide) (fun c19 => ?_) (fun c19 => ?_)
          · replace hs := ifp c19 hs
            refine lv_iconst (v := (-1)) hx hb dX6_judge_138 (by decide) ?_
            exact m_reti X hK hM hs dX6_judge_139
          · replace hs := ifn c19 hs
            refine lv_aload_n hx hb dX6_judge_72 rfl (lv_at hl 0 rfl) ?_
            refine lv_iload_n hx hb dX6_judge_73 rfl (lv_at hl 1 rfl) ?_
            refine lv_iload hx hb dX6_judge_74 (lv_at hl 5 rfl) ?_
            refine m_calli (rest := []) (av := fun ad => [.int a1, .int x6]) X hK hA hM (met_intAt l a1 x6 _ _ hs) iX6_intAt q1958 ⟨Nat.le_of_ble_eq_true rfl, Nat.le_of_ble_eq_true rfl⟩ rfl hl.1 rfl (Nat.le_of_ble_eq_true rfl) dX6_judge_76 (fun r10 S9 H locs hs hM => ?_)
            refine lv_istore (lv' := [(7, .int r10), (0, .ref h), (1, .int a1), (2, .int a2), (4, .int x4), (5, .int x5), (6, .int x6)]) hx hb dX6_judge_79 hl (by decide) rfl (fun ls hl => ?_)
            refine lv_aload_n hx hb dX6_judge_81 rfl (lv_at hl 1 rfl) ?_
            refine lv_iload hx hb dX6_judge_82 (lv_at hl 0 rfl) ?_
            refine m_callz (rest := []) (av := fun ad => [.int r10]) X hK hA hM (met_isChild l r10 _ _ hs) iX6_isChild q1682 ⟨Nat.le_of_ble_eq_true rfl, Nat.le_of_ble_eq_true rfl⟩ rfl hl.1 rfl (Nat.le_of_ble_eq_true rfl) dX6_judge_84 (fun r12 S11 H locs br12 hs hM => ?_)
            refine lv_if_eq (tgt := 112) hx hb dX6_judge_87 (by decide) (fun c18 => ?_) (fun c18 => ?_)
            · replace hs := ifp c18 hs
              refine lv_iload hx hb dX6_judge_112 (lv_at hl 6 rfl) ?_
              exact m_reti X hK hM hs dX6_judge_114
            · replace hs := ifn c18 hs
              refine lv_iload hx hb dX6_judge_90 (lv_at hl 4 rfl) ?_
              refine lv_iload hx hb dX6_judge_92 (lv_at hl 0 rfl) ?_
              refine lv_ishr hx hb dX6_judge_94 ?_
              refine lv_iconst (v := 1) hx hb dX6_judge_95 (by decide) ?_
              refine lv_iand hx hb dX6_judge_96 ?_
              refine lv_iconst (v := 1) hx hb dX6_judge_97 (by decide) ?_
              refine lv_icmp_eq (tgt := 112) hx hb dX6_judge_98 (by decide) (fun c17 => ?_) (fun c17 => ?_)
              · replace hs := ifp c17 hs
                refine lv_iload hx hb dX6_judge_112 (lv_at hl 6 rfl) ?_
                exact m_reti X hK hM hs dX6_judge_114
              · replace hs := ifn c17 hs
                refine lv_aload_n hx hb dX6_judge_101 rfl (lv_at hl 1 rfl) ?_
                refine lv_iload hx hb dX6_judge_102 (lv_at hl 0 rfl) ?_
                refine m_calli (rest := []) (av := fun ad => [.int r10]) X hK hA hM (met_inOf l r10 _ _ hs) iX6_inOf q1858 ⟨Nat.le_of_ble_eq_true rfl, Nat.le_of_ble_eq_true rfl⟩ rfl hl.1 rfl (Nat.le_of_ble_eq_true rfl) dX6_judge_104 (fun r14 S13 H locs hs hM => ?_)
                refine lv_iload hx hb dX6_judge_107 (lv_at hl 5 rfl) ?_
                refine lv_icmp_ge (tgt := 115) hx hb dX6_judge_109 (by decide) (fun c16 => ?_) (fun c16 => ?_)
                · replace hs := ifp c16 hs
                  refine lv_iload hx hb dX6_judge_115 (lv_at hl 4 rfl) ?_
                  refine lv_iconst (v := 1) hx hb dX6_judge_117 (by decide) ?_
                  refine lv_iload hx hb dX6_judge_118 (lv_at hl 0 rfl) ?_
                  refine lv_ishl hx hb dX6_judge_120 ?_
                  refine lv_ior hx hb dX6_judge_121 ?_
                  refine lv_istore (lv' := [(4, .int (x4 ||| (1 <<< (r10 &&& 31)))), (7, .int r10), (0, .ref h), (1, .int a1), (2, .int a2), (5, .int x5), (6, .int x6)]) hx hb dX6_judge_122 hl (by decide) rfl (fun ls hl => ?_)
                  refine lv_aload_n hx hb dX6_judge_124 rfl (lv_at hl 2 rfl) ?_
                  refine lv_iload hx hb dX6_judge_125 (lv_at hl 1 rfl) ?_
                  refine m_calli (rest := []) (av := fun ad => [.int r10]) X hK hA hM (met_inOf l r10 _ _ hs) iX6_inOf q1858 ⟨Nat.le_of_ble_eq_true rfl, Nat.le_of_ble_eq_true rfl⟩ rfl hl.1 rfl (Nat.le_of_ble_eq_true rfl) dX6_judge_127 (fun r16 S15 H locs hs hM => ?_)
                  refine lv_istore (lv' := [(5, .int r16), (4, .int (x4 ||| (1 <<< (r10 &&& 31)))), (7, .int r10), (0, .ref h), (1, .int a1), (2, .int a2), (6, .int x6)]) hx hb dX6_judge_130 hl (by decide) rfl (fun ls hl => ?_)
                  refine lv_iinc (v := (x6 + 1)) (lv' := [(6, .int (x6 + 1)), (5, .int r16), (4, .int (x4 ||| (1 <<< (r10 &&& 31)))), (7, .int r10), (0, .ref h), (1, .int a1), (2, .int a2)]) hx hb dX6_judge_132 hl (k := 6) rfl (congrArg (fun z => x6 + z) (show Int32.ofInt (1) = 1 by decide)) (by decide) rfl (fun ls hl => ?_)
                  refine lv_goto (tgt := 66) hx hb dX6_judge_135 (by decide) ?_
                  exact ihm_judge_l66 _ _ _ _ _ _ _ hs hM (lv_sub hl [4, 5, 6, 2, 1, 0] rfl)
                · replace hs := ifn c16 hs
                  refine lv_iload hx hb dX6_judge_112 (lv_at hl 6 rfl) ?_
                  exact m_reti X hK hM hs dX6_judge_114
      exact Lm_judge_l66 NF _ _ _ _ _ _ _ hs hM (lv_sub hl [3, 4, 5, 2, 1, 0] rfl)
    · replace hs := ifn c22 hs
      refine lv_aload_n hx hb dX6_judge_51 rfl (lv_at hl 0 rfl) ?_
      refine lv_iload_n hx hb dX6_judge_52 rfl (lv_at hl 3 rfl) ?_
      refine m_calli (rest := []) (av := fun ad => [.int x3]) X hK hA hM (met_noTen l x3 _ _ hs) iX6_noTen q1934 ⟨Nat.le_of_ble_eq_true rfl, Nat.le_of_ble_eq_true rfl⟩ rfl hl.1 rfl (Nat.le_of_ble_eq_true rfl) dX6_judge_53 (fun r22 S21 H locs hs hM => ?_)
      exact m_reti X hK hM hs dX6_judge_56
  refine lv_if_ne (tgt := 47) hx hb dX6_judge_7 (by decide) (fun c28 => ?_) (fun c28 => ?_)
  · replace hs := ifn c28 hs
    exact Ek47_3 _ _ _ _ hs hM (lv_sub hl [1, 2, 3, 0] rfl)
  · replace hs := ifp c28 hs
    refine lv_iload_n hx hb dX6_judge_10 rfl (lv_at hl 3 rfl) ?_
    obtain ⟨k46_24, hk46_24, hs⟩ := jn_ex hs
    have Ek46_24 : ∀ (v24 : Int32) (H : Heap) (locs : List Loc) (ls : Array Slot), k46_24 v24 → mI D dT A s.heap h ad S1 H locs → lv_has ls 8 [(0, .ref h), (1, .int a1), (2, .int a2)] → W p l e (mRm 7 144) s m args below meth c H locs 0 0 (MQ below (mQi D dT h ad K A) args s 0 0 A) (F0 m 46 ls [.int v24]) := by
      intro v24 H locs ls hs hM hl
      rw [hk46_24] at hs
      refine lv_istore_n (lv' := [(3, .int v24), (0, .ref h), (1, .int a1), (2, .int a2)]) hx hb dX6_judge_46 rfl hl (by decide) rfl (fun ls hl => ?_)
      exact Ek47_3 _ _ _ _ hs hM (lv_sub hl [1, 2, 3, 0] rfl)
    refine lv_if_ge (tgt := 19) hx hb dX6_judge_11 (by decide) (fun c27 => ?_) (fun c27 => ?_)
    · replace hs := ifp c27 hs
      refine lv_iload_n hx hb dX6_judge_19 rfl (lv_at hl 3 rfl) ?_
      refine lv_aload_n hx hb dX6_judge_20 rfl (lv_at hl 1 rfl) ?_
      refine m_geti (v := .ref (ad 21)) X hK hM 21 q1497 rfl rfl rfl dX6_judge_21 ?_
      refine lv_iload_n hx hb dX6_judge_24 rfl (lv_at hl 2 rfl) ?_
      obtain ⟨v25, ev25, hs⟩ := hs
      refine m_iald X hK hM rfl ev25 dX6_judge_25 ?_
      refine lv_icmp_le (tgt := 34) hx hb dX6_judge_26 (by decide) (fun c26 => ?_) (fun c26 => ?_)
      · replace hs := ifp c26 hs
        refine lv_iload_n hx hb dX6_judge_34 rfl (lv_at hl 3 rfl) ?_
        refine lv_bipush (v := 8) hx hb dX6_judge_35 (by decide) ?_
        refine lv_icmp_le (tgt := 45) hx hb dX6_judge_37 (by decide) (fun c25 => ?_) (fun c25 => ?_)
        · replace hs := ifp c25 hs
          refine lv_iconst (v := 0) hx hb dX6_judge_45 (by decide) ?_
          exact Ek46_24 _ _ _ _ hs hM (lv_sub hl [1, 2, 3] rfl)
        · replace hs := ifn c25 hs
          refine lv_bipush (v := (-6)) hx hb dX6_judge_40 (by decide) ?_
          refine lv_goto (tgt := 46) hx hb dX6_judge_42 (by decide) ?_
          exact Ek46_24 _ _ _ _ hs hM (lv_sub hl [1, 2, 3] rfl)
      · replace hs := ifn c26 hs
        refine lv_bipush (v := (-5)) hx hb dX6_judge_29 (by decide) ?_
        refine lv_goto (tgt := 46) hx hb dX6_judge_31 (by decide) ?_
        exact Ek46_24 _ _ _ _ hs hM (lv_sub hl [1, 2, 3] rfl)
    · replace hs := ifn c27 hs
      refine lv_bipush (v := (-4)) hx hb dX6_judge_14 (by decide) ?_
      refine lv_goto (tgt := 46) hx hb dX6_judge_16 (by decide) ?_
      exact Ek46_24 _ _ _ _ hs hM (lv_sub hl [1, 2, 3] rfl)
def m_meant_l54 (a1 : Int32) (x5 : Int32) (k90_9 : Int32 → MS → Prop) : Nat → Int32 → Int32 → MS → Prop
  | 0, _, _, _ => False
  | n54_15 + 1, x13, x14, S15 => (if (S15.1 0) ≤ x14 then k90_9 x13 S15 else m_inAs x14 x5 S15 (fun r18 S17 => m_intAt a1 x14 S17 (fun r20 S19 => jn (fun (x21 : Int32) => m_meant_l54 a1 x5 k90_9 n54_15 x21 (x14 + 1) S19) (fun k84_21 => (if r18 = r20 then k84_21 x13 else k84_21 0)))))
theorem m_meant_l54_s (a1 : Int32) (x5 : Int32) (k90_9 : Int32 → MS → Prop) (n54_15 : Nat) (x13 : Int32) (x14 : Int32) (S15 : MS) : m_meant_l54 a1 x5 k90_9 (n54_15 + 1) x13 x14 S15 = ((if (S15.1 0) ≤ x14 then k90_9 x13 S15 else m_inAs x14 x5 S15 (fun r18 S17 => m_intAt a1 x14 S17 (fun r20 S19 => jn (fun (x21 : Int32) => m_meant_l54 a1 x5 k90_9 n54_15 x21 (x14 + 1) S19) (fun k84_21 => (if r18 = r20 then k84_21 x13 else k84_21 0)))))) := rfl
def m_meant_l41 (K : Int32 → MS → Prop) (a1 : Int32) : Nat → Int32 → Int32 → MS → Prop
  | 0, _, _, _ => False
  | n41_6 + 1, x4, x5, S6 => (if 7 ≤ x5 then K x4 S6 else jn (fun (x8 : Int32) (S9 : MS) => jn (fun (x11 : Int32) => m_meant_l41 K a1 n41_6 x11 (x5 + 1) S9) (fun k102_11 => (if x8 = 0 then k102_11 x4 else k102_11 (x4 ||| (1 <<< (x5 &&& 31)))))) (fun k90_9 => m_meant_l54 a1 x5 k90_9 NF 1 0 S6))
theorem m_meant_l41_s (K : Int32 → MS → Prop) (a1 : Int32) (n41_6 : Nat) (x4 : Int32) (x5 : Int32) (S6 : MS) : m_meant_l41 K a1 (n41_6 + 1) x4 x5 S6 = ((if 7 ≤ x5 then K x4 S6 else jn (fun (x8 : Int32) (S9 : MS) => jn (fun (x11 : Int32) => m_meant_l41 K a1 n41_6 x11 (x5 + 1) S9) (fun k102_11 => (if x8 = 0 then k102_11 x4 else k102_11 (x4 ||| (1 <<< (x5 &&& 31)))))) (fun k90_9 => m_meant_l54 a1 x5 k90_9 NF 1 0 S6))) := rfl
def m_meant (a1 : Int32) (S : MS) (K : Int32 → MS → Prop) : Prop := m_wanted a1 S (fun r2 S1 => jn (fun (x3 : Int32) => (if x3 = 0 then m_meant_l41 K a1 NF 0 0 S1 else m_no x3 S1 (fun r26 S25 => K r26 S25))) (fun k26_3 => (if r2 = 0 then obd (mald S1 21 a1) (fun v28 => (if (S1.1 0) ≤ v28 then k26_3 r2 else k26_3 (-5))) else k26_3 r2)))
theorem iX6_meant : mInf yX6_meant cX6_meant 7 (some .int) 1 := ⟨q1963, q1964, q1965, by decide +kernel⟩
set_option maxHeartbeats 4000000 in
theorem met_meant (l : Launch) (a1 : Int32) (S : MS) (K : Int32 → MS → Prop) (hs : m_meant a1 S K) : mMeti l yX6_meant cX6_meant 7 7 145 S (fun ad => [.int a1]) K := by
  intro D dT h ad sz
  refine mEnter (Qc := mQi D dT h ad K) (by decide) rfl (by rfl) ?_
  intro p e s m args below meth c A ls X hK hA hM hl
  have hx := X.1
  have hb := X.2.1
  have hts := X.2.2.2.2.1
  have hown := X.2.2.2.2.2.1
  have hl : lv_has ls 7 [(0, .ref h), (1, .int a1)] := hl
  unfold m_meant at hs
  refine lv_aload_n hx hb dX6_meant_0 rfl (lv_at hl 0 rfl) ?_
  refine lv_iload_n hx hb dX6_meant_1 rfl (lv_at hl 1 rfl) ?_
  refine m_calli (rest := []) (av := fun ad => [.int a1]) X hK hA hM (met_wanted l a1 _ _ hs) iX6_wanted q1782 ⟨Nat.le_of_ble_eq_true rfl, Nat.le_of_ble_eq_true rfl⟩ rfl hl.1 rfl (Nat.le_of_ble_eq_true rfl) dX6_meant_2 (fun r2 S1 H locs hs hM => ?_)
  refine lv_istore_n (lv' := [(2, .int r2), (0, .ref h), (1, .int a1)]) hx hb dX6_meant_5 rfl hl (by decide) rfl (fun ls hl => ?_)
  refine lv_iload_n hx hb dX6_meant_6 rfl (lv_at hl 0 rfl) ?_
  obtain ⟨k26_3, hk26_3, hs⟩ := jn_ex hs
  have Ek26_3 : ∀ (x3 : Int32) (H : Heap) (locs : List Loc) (ls : Array Slot), k26_3 x3 → mI D dT A s.heap h ad S1 H locs → lv_has ls 7 [(0, .ref h), (1, .int a1), (2, .int x3)] → W p l e (mRm 7 145) s m args below meth c H locs 0 0 (MQ below (mQi D dT h ad K A) args s 0 0 A) (F0 m 26 ls []) := by
    intro x3 H locs ls hs hM hl
    rw [hk26_3] at hs
    refine lv_iload_n hx hb dX6_meant_26 rfl (lv_at hl 2 rfl) ?_
    refine lv_if_eq (tgt := 36) hx hb dX6_meant_27 (by decide) (fun c26 => ?_) (fun c26 => ?_)
    · replace hs := ifp c26 hs
      refine lv_iconst (v := 0) hx hb dX6_meant_36 (by decide) ?_
      refine lv_istore_n (lv' := [(3, .int 0), (0, .ref h), (1, .int a1), (2, .int x3)]) hx hb dX6_meant_37 rfl hl (by decide) rfl (fun ls hl => ?_)
      refine lv_iconst (v := 0) hx hb dX6_meant_38 (by decide) ?_
      refine lv_istore (lv' := [(4, .int 0), (3, .int 0), (0, .ref h), (1, .int a1), (2, .int x3)]) hx hb dX6_meant_39 hl (by decide) rfl (fun ls hl => ?_)
      have Lm_meant_l41 : ∀ (n41_6 : Nat) (x4 : Int32) (x5 : Int32) (S6 : MS) (H : Heap) (locs : List Loc) (ls : Array Slot), m_meant_l41 K a1 n41_6 x4 x5 S6 → mI D dT A s.heap h ad S6 H locs → lv_has ls 7 [(0, .ref h), (1, .int a1), (3, .int x4), (4, .int x5)] → W p l e (mRm 7 145) s m args below meth c H locs 0 0 (MQ below (mQi D dT h ad K A) args s 0 0 A) (F0 m 41 ls []) := by
        intro n41_6
        induction n41_6 with
        | zero =>
          intro x4 x5 S6 H locs ls hs
          exact False.elim hs
        | succ n41_6 ihm_meant_l41 =>
          intro x4 x5 S6 H locs ls hs hM hl
          rw [m_meant_l41_s] at hs
          refine lv_iload hx hb dX6_meant_41 (lv_at hl 3 rfl) ?_
          refine lv_bipush (v := 7) hx hb dX6_meant_43 (by decide) ?_
          refine lv_icmp_ge (tgt := 108) hx hb dX6_meant_45 (by decide) (fun c23 => ?_) (fun c23 => ?_)
          · replace hs := ifp c23 hs
            refine lv_iload_n hx hb dX6_meant_108 rfl (lv_at hl 2 rfl) ?_
            exact m_reti X hK hM hs dX6_meant_109
          · replace hs := ifn c23 hs
            refine lv_iconst (v := 1) hx hb dX6_meant_48 (by decide) ?_
            refine lv_istore (lv' := [(5, .int 1), (0, .ref h), (1, .int a1), (3, .int x4), (4, .int x5)]) hx hb dX6_meant_49 hl (by decide) rfl (fun ls hl => ?_)
            refine lv_iconst (v := 0) hx hb dX6_meant_51 (by decide) ?_
            refine lv_istore (lv' := [(6, .int 0), (5, .int 1), (0, .ref h), (1, .int a1), (3, .int x4), (4, .int x5)]) hx hb dX6_meant_52 hl (by decide) rfl (fun ls hl => ?_)
            obtain ⟨k90_9, hk90_9, hs⟩ := jn_ex hs
            have Ek90_9 : ∀ (x8 : Int32) (S9 : MS) (H : Heap) (locs : List Loc) (ls : Array Slot), k90_9 x8 S9 → mI D dT A s.heap h ad S9 H locs → lv_has ls 7 [(0, .ref h), (1, .int a1), (3, .int x4), (4, .int x5), (5, .int x8)] → W p l e (mRm 7 145) s m args below meth c H locs 0 0 (MQ below (mQi D dT h ad K A) args s 0 0 A) (F0 m 90 ls []) := by
              intro x8 S9 H locs ls hs hM hl
              rw [hk90_9] at hs
              refine lv_iload hx hb dX6_meant_90 (lv_at hl 4 rfl) ?_
              obtain ⟨k102_11, hk102_11, hs⟩ := jn_ex hs
              have Ek102_11 : ∀ (x11 : Int32) (H : Heap) (locs : List Loc) (ls : Array Slot), k102_11 x11 → mI D dT A s.heap h ad S9 H locs → lv_has ls 7 [(0, .ref h), (1, .int a1), (3, .int x11), (4, .int x5)] → W p l e (mRm 7 145) s m args below meth c H locs 0 0 (MQ below (mQi D dT h ad K A) args s 0 0 A) (F0 m 102 ls []) := by
                intro x11 H locs ls hs hM hl
                rw [hk102_11] at hs
                refine lv_iinc (v := (x5 + 1)) (lv' := [(4, .int (x5 + 1)), (0, .ref h), (1, .int a1), (3, .int x11)]) hx hb dX6_meant_102 hl (k := 3) rfl (congrArg (fun z => x5 + z) (show Int32.ofInt (1) = 1 by decide)) (by decide) rfl (fun ls hl => ?_)
                refine lv_goto (tgt := 41) hx hb dX6_meant_105 (by decide) ?_
                exact ihm_meant_l41 _ _ _ _ _ _ hs hM (lv_sub hl [1, 2, 3, 0] rfl)
              refine lv_if_eq (tgt := 102) hx hb dX6_meant_92 (by decide) (fun c11 => ?_) (fun c11 => ?_)
              · replace hs := ifp c11 hs
                exact Ek102_11 _ _ _ _ hs hM (lv_sub hl [0, 1, 2, 3] rfl)
              · replace hs := ifn c11 hs
                refine lv_iload_n hx hb dX6_meant_95 rfl (lv_at hl 2 rfl) ?_
                refine lv_iconst (v := 1) hx hb dX6_meant_96 (by decide) ?_
                refine lv_iload hx hb dX6_meant_97 (lv_at hl 3 rfl) ?_
                refine lv_ishl hx hb dX6_meant_99 ?_
                refine lv_ior hx hb dX6_meant_100 ?_
                refine lv_istore_n (lv' := [(3, .int (x4 ||| (1 <<< (x5 &&& 31)))), (0, .ref h), (1, .int a1), (4, .int x5), (5, .int x8)]) hx hb dX6_meant_101 rfl hl (by decide) rfl (fun ls hl => ?_)
                exact Ek102_11 _ _ _ _ hs hM (lv_sub hl [1, 2, 0, 3] rfl)
            have Lm_meant_l54 : ∀ (n54_15 : Nat) (x13 : Int32) (x14 : Int32) (S15 : MS) (H : Heap) (locs : List Loc) (ls : Array Slot), m_meant_l54 a1 x5 k90_9 n54_15 x13 x14 S15 → mI D dT A s.heap h ad S15 H locs → lv_has ls 7 [(0, .ref h), (1, .int a1), (3, .int x4), (4, .int x5), (5, .int x13), (6, .int x14)] → W p l e (mRm 7 145) s m args below meth c H locs 0 0 (MQ below (mQi D dT h ad K A) args s 0 0 A) (F0 m 54 ls []) := by
              intro n54_15
              induction n54_15 with
              | zero =>
                intro x13 x14 S15 H locs ls hs
                exact False.elim hs
              | succ n54_15 ihm_meant_l54 =>
                intro x13 x14 S15 H locs ls hs hM hl
                rw [m_meant_l54_s] at hs
                refine lv_iload hx hb dX6_meant_54 (lv_at hl 5 rfl) ?_
                refine lv_aload_n hx hb dX6_meant_56 rfl (lv_at hl 0 rfl) ?_
                refine m_geti (v := .int (S15.1 0)) X hK hM 0 q1476 rfl rfl rfl dX6_meant_57 ?_
                refine lv_icmp_ge (tgt := 90) hx hb dX6_meant_60 (by decide) (fun c22 => ?_) (fun c22 => ?_)
                · replace hs := ifp c22 hs
                  exact Ek90_9 _ _ _ _ _ hs hM (lv_sub hl [0, 1, 2, 3, 4] rfl)
                · replace hs := ifn c22 hs
                  refine lv_aload_n hx hb dX6_meant_63 rfl (lv_at hl 0 rfl) ?_
                  refine lv_iload hx hb dX6_meant_64 (lv_at hl 5 rfl) ?_
                  refine lv_iload hx hb dX6_meant_66 (lv_at hl 3 rfl) ?_
                  refine m_calli (rest := []) (av := fun ad => [.int x14, .int x5]) X hK hA hM (met_inAs l x14 x5 _ _ hs) iX6_inAs q1886 ⟨Nat.le_of_ble_eq_true rfl, Nat.le_of_ble_eq_true rfl⟩ rfl hl.1 rfl (Nat.le_of_ble_eq_true rfl) dX6_meant_68 (fun r18 S17 H locs hs hM => ?_)
                  refine lv_aload_n hx hb dX6_meant_71 rfl (lv_at hl 0 rfl) ?_
                  refine lv_iload_n hx hb dX6_meant_72 rfl (lv_at hl 1 rfl) ?_
                  refine lv_iload hx hb dX6_meant_73 (lv_at hl 5 rfl) ?_
                  refine m_calli (rest := [.int r18]) (av := fun ad => [.int a1, .int x14]) X hK hA hM (met_intAt l a1 x14 _ _ hs) iX6_intAt q1958 ⟨Nat.le_of_ble_eq_true rfl, Nat.le_of_ble_eq_true rfl⟩ rfl hl.1 rfl (Nat.le_of_ble_eq_true rfl) dX6_meant_75 (fun r20 S19 H locs hs hM => ?_)
                  obtain ⟨k84_21, hk84_21, hs⟩ := jn_ex hs
                  have Ek84_21 : ∀ (x21 : Int32) (H : Heap) (locs : List Loc) (ls : Array Slot), k84_21 x21 → mI D dT A s.heap h ad S19 H locs → lv_has ls 7 [(0, .ref h), (1, .int a1), (3, .int x4), (4, .int x5), (5, .int x21), (6, .int x14)] → W p l e (mRm 7 145) s m args below meth c H locs 0 0 (MQ below (mQi D dT h ad K A) args s 0 0 A) (F0 m 84 ls []) := by
                    intro x21 H locs ls hs hM hl
                    rw [hk84_21] at hs
                    refine lv_iinc (v := (x14 + 1)) (lv' := [(6, .int (x14 + 1)), (0, .ref h), (1, .int a1), (3, .int x4), (4, .int x5), (5, .int x21)]) hx hb dX6_meant_84 hl (k := 5) rfl (congrArg (fun z => x14 + z) (show Int32.ofInt (1) = 1 by decide)) (by decide) rfl (fun ls hl => ?_)
                    refine lv_goto (tgt := 54) hx hb dX6_meant_87 (by decide) ?_
                    exact ihm_meant_l54 _ _ _ _ _ _ hs hM (lv_sub hl [1, 2, 3, 4, 5, 0] rfl)
                  refine lv_icmp_eq (tgt := 84) hx hb dX6_meant_78 (by decide) (fun c21 => ?_) (fun c21 => ?_)
                  · replace hs := ifp c21 hs
                    exact Ek84_21 _ _ _ _ hs hM hl
                  · replace hs := ifn c21 hs
                    refine lv_iconst (v := 0) hx hb dX6_meant_81 (by decide) ?_
                    refine lv_istore (lv' := [(5, .int 0), (0, .ref h), (1, .int a1), (3, .int x4), (4, .int x5), (6, .int x14)]) hx hb dX6_meant_82 hl (by decide) rfl (fun ls hl => ?_)
                    exact Ek84_21 _ _ _ _ hs hM (lv_sub hl [1, 2, 3, 4, 0, 5] rfl)
            exact Lm_meant_l54 NF _ _ _ _ _ _ hs hM (lv_sub hl [2, 3, 4, 5, 1, 0] rfl)
      exact Lm_meant_l41 NF _ _ _ _ _ _ hs hM (lv_sub hl [2, 3, 1, 0] rfl)
    · replace hs := ifn c26 hs
      refine lv_aload_n hx hb dX6_meant_30 rfl (lv_at hl 0 rfl) ?_
      refine lv_iload_n hx hb dX6_meant_31 rfl (lv_at hl 2 rfl) ?_
      refine m_calli (rest := []) (av := fun ad => [.int x3]) X hK hA hM (met_no l x3 _ _ hs) iX6_no q1662 ⟨Nat.le_of_ble_eq_true rfl, Nat.le_of_ble_eq_true rfl⟩ rfl hl.1 rfl (Nat.le_of_ble_eq_true rfl) dX6_meant_32 (fun r26 S25 H locs hs hM => ?_)
      exact m_reti X hK hM hs dX6_meant_35
  refine lv_if_ne (tgt := 26) hx hb dX6_meant_7 (by decide) (fun c29 => ?_) (fun c29 => ?_)
  · replace hs := ifn c29 hs
    exact Ek26_3 _ _ _ _ hs hM (lv_sub hl [1, 2, 0] rfl)
  · replace hs := ifp c29 hs
    refine lv_aload_n hx hb dX6_meant_10 rfl (lv_at hl 1 rfl) ?_
    refine m_geti (v := .ref (ad 21)) X hK hM 21 q1497 rfl rfl rfl dX6_meant_11 ?_
    refine lv_iload_n hx hb dX6_meant_14 rfl (lv_at hl 2 rfl) ?_
    obtain ⟨v28, ev28, hs⟩ := hs
    refine m_iald X hK hM rfl ev28 dX6_meant_15 ?_
    refine lv_aload_n hx hb dX6_meant_16 rfl (lv_at hl 1 rfl) ?_
    refine m_geti (v := .int (S1.1 0)) X hK hM 0 q1476 rfl rfl rfl dX6_meant_17 ?_
    refine lv_icmp_ge (tgt := 26) hx hb dX6_meant_20 (by decide) (fun c28 => ?_) (fun c28 => ?_)
    · replace hs := ifp c28 hs
      exact Ek26_3 _ _ _ _ hs hM (lv_sub hl [1, 2, 0] rfl)
    · replace hs := ifn c28 hs
      refine lv_bipush (v := (-5)) hx hb dX6_meant_23 (by decide) ?_
      refine lv_istore_n (lv' := [(2, .int (-5)), (0, .ref h), (1, .int a1)]) hx hb dX6_meant_25 rfl hl (by decide) rfl (fun ls hl => ?_)
      exact Ek26_3 _ _ _ _ hs hM (lv_sub hl [1, 2, 0] rfl)
def m_worn_l19 (K : Int32 → MS → Prop) (a1 : Int32) (a2 : Int32) : Nat → Int32 → Int32 → MS → Prop
  | 0, _, _, _ => False
  | n19_5 + 1, x3, x4, S5 => (if (S5.1 1) ≤ x4 then K x3 S5 else m_inWith a1 x4 S5 (fun r8 S7 => jn (fun (x9 : Int32) => m_worn_l19 K a1 a2 n19_5 x9 (x4 + 1) S7) (fun k46_9 => (if r8 = a2 then k46_9 (x3 ||| (1 <<< (x4 &&& 31))) else k46_9 x3))))
theorem m_worn_l19_s (K : Int32 → MS → Prop) (a1 : Int32) (a2 : Int32) (n19_5 : Nat) (x3 : Int32) (x4 : Int32) (S5 : MS) : m_worn_l19 K a1 a2 (n19_5 + 1) x3 x4 S5 = ((if (S5.1 1) ≤ x4 then K x3 S5 else m_inWith a1 x4 S5 (fun r8 S7 => jn (fun (x9 : Int32) => m_worn_l19 K a1 a2 n19_5 x9 (x4 + 1) S7) (fun k46_9 => (if r8 = a2 then k46_9 (x3 ||| (1 <<< (x4 &&& 31))) else k46_9 x3))))) := rfl
def m_worn (a1 : Int32) (a2 : Int32) (S : MS) (K : Int32 → MS → Prop) : Prop := m_isChild a1 S (fun r2 S1 => (if r2 = 0 then m_no (-1) S1 (fun r13 S12 => K r13 S12) else m_worn_l19 K a1 a2 NF 0 0 S1))
theorem iX6_worn : mInf yX6_worn cX6_worn 5 (some .int) 2 := ⟨q1967, q1968, q1969, by decide +kernel⟩
set_option maxHeartbeats 4000000 in
theorem met_worn (l : Launch) (a1 : Int32) (a2 : Int32) (S : MS) (K : Int32 → MS → Prop) (hs : m_worn a1 a2 S K) : mMeti l yX6_worn cX6_worn 5 7 145 S (fun ad => [.int a1, .int a2]) K := by
  intro D dT h ad sz
  refine mEnter (Qc := mQi D dT h ad K) (by decide) rfl (by rfl) ?_
  intro p e s m args below meth c A ls X hK hA hM hl
  have hx := X.1
  have hb := X.2.1
  have hts := X.2.2.2.2.1
  have hown := X.2.2.2.2.2.1
  have hl : lv_has ls 5 [(0, .ref h), (1, .int a1), (2, .int a2)] := hl
  unfold m_worn at hs
  refine lv_aload_n hx hb dX6_worn_0 rfl (lv_at hl 0 rfl) ?_
  refine lv_iload_n hx hb dX6_worn_1 rfl (lv_at hl 1 rfl) ?_
  refine m_callz (rest := []) (av := fun ad => [.int a1]) X hK hA hM (met_isChild l a1 _ _ hs) iX6_isChild q1682 ⟨Nat.le_of_ble_eq_true rfl, Nat.le_of_ble_eq_true rfl⟩ rfl hl.1 rfl (Nat.le_of_ble_eq_true rfl) dX6_worn_2 (fun r2 S1 H locs br2 hs hM => ?_)
  refine lv_if_ne (tgt := 14) hx hb dX6_worn_5 (by decide) (fun c13 => ?_) (fun c13 => ?_)
  · replace hs := ifn c13 hs
    refine lv_iconst (v := 0) hx hb dX6_worn_14 (by decide) ?_
    refine lv_istore_n (lv' := [(3, .int 0), (0, .ref h), (1, .int a1), (2, .int a2)]) hx hb dX6_worn_15 rfl hl (by decide) rfl (fun ls hl => ?_)
    refine lv_iconst (v := 0) hx hb dX6_worn_16 (by decide) ?_
    refine lv_istore (lv' := [(4, .int 0), (3, .int 0), (0, .ref h), (1, .int a1), (2, .int a2)]) hx hb dX6_worn_17 hl (by decide) rfl (fun ls hl => ?_)
    have Lm_worn_l19 : ∀ (n19_5 : Nat) (x3 : Int32) (x4 : Int32) (S5 : MS) (H : Heap) (locs : List Loc) (ls : Array Slot), m_worn_l19 K a1 a2 n19_5 x3 x4 S5 → mI D dT A s.heap h ad S5 H locs → lv_has ls 5 [(0, .ref h), (1, .int a1), (2, .int a2), (3, .int x3), (4, .int x4)] → W p l e (mRm 7 145) s m args below meth c H locs 0 0 (MQ below (mQi D dT h ad K A) args s 0 0 A) (F0 m 19 ls []) := by
      intro n19_5
      induction n19_5 with
      | zero =>
        intro x3 x4 S5 H locs ls hs
        exact False.elim hs
      | succ n19_5 ihm_worn_l19 =>
        intro x3 x4 S5 H locs ls hs hM hl
        rw [m_worn_l19_s] at hs
        refine lv_iload hx hb dX6_worn_19 (lv_at hl 4 rfl) ?_
        refine lv_aload_n hx hb dX6_worn_21 rfl (lv_at hl 0 rfl) ?_
        refine m_geti (v := .int (S5.1 1)) X hK hM 1 q1477 rfl rfl rfl dX6_worn_22 ?_
        refine lv_icmp_ge (tgt := 52) hx hb dX6_worn_25 (by decide) (fun c10 => ?_) (fun c10 => ?_)
        · replace hs := ifp c10 hs
          refine lv_iload_n hx hb dX6_worn_52 rfl (lv_at hl 3 rfl) ?_
          exact m_reti X hK hM hs dX6_worn_53
        · replace hs := ifn c10 hs
          refine lv_aload_n hx hb dX6_worn_28 rfl (lv_at hl 0 rfl) ?_
          refine lv_iload_n hx hb dX6_worn_29 rfl (lv_at hl 1 rfl) ?_
          refine lv_iload hx hb dX6_worn_30 (lv_at hl 4 rfl) ?_
          refine m_calli (rest := []) (av := fun ad => [.int a1, .int x4]) X hK hA hM (met_inWith l a1 x4 _ _ hs) iX6_inWith q1894 ⟨Nat.le_of_ble_eq_true rfl, Nat.le_of_ble_eq_true rfl⟩ rfl hl.1 rfl (Nat.le_of_ble_eq_true rfl) dX6_worn_32 (fun r8 S7 H locs hs hM => ?_)
          refine lv_iload_n hx hb dX6_worn_35 rfl (lv_at hl 2 rfl) ?_
          obtain ⟨k46_9, hk46_9, hs⟩ := jn_ex hs
          have Ek46_9 : ∀ (x9 : Int32) (H : Heap) (locs : List Loc) (ls : Array Slot), k46_9 x9 → mI D dT A s.heap h ad S7 H locs → lv_has ls 5 [(0, .ref h), (1, .int a1), (2, .int a2), (3, .int x9), (4, .int x4)] → W p l e (mRm 7 145) s m args below meth c H locs 0 0 (MQ below (mQi D dT h ad K A) args s 0 0 A) (F0 m 46 ls []) := by
            intro x9 H locs ls hs hM hl
            rw [hk46_9] at hs
            refine lv_iinc (v := (x4 + 1)) (lv' := [(4, .int (x4 + 1)), (0, .ref h), (1, .int a1), (2, .int a2), (3, .int x9)]) hx hb dX6_worn_46 hl (k := 4) rfl (congrArg (fun z => x4 + z) (show Int32.ofInt (1) = 1 by decide)) (by decide) rfl (fun ls hl => ?_)
            refine lv_goto (tgt := 19) hx hb dX6_worn_49 (by decide) ?_
            exact ihm_worn_l19 _ _ _ _ _ _ hs hM (lv_sub hl [1, 2, 3, 4, 0] rfl)
          refine lv_icmp_ne (tgt := 46) hx hb dX6_worn_36 (by decide) (fun c9 => ?_) (fun c9 => ?_)
          · replace hs := ifn c9 hs
            exact Ek46_9 _ _ _ _ hs hM hl
          · replace hs := ifp c9 hs
            refine lv_iload_n hx hb dX6_worn_39 rfl (lv_at hl 3 rfl) ?_
            refine lv_iconst (v := 1) hx hb dX6_worn_40 (by decide) ?_
            refine lv_iload hx hb dX6_worn_41 (lv_at hl 4 rfl) ?_
            refine lv_ishl hx hb dX6_worn_43 ?_
            refine lv_ior hx hb dX6_worn_44 ?_
            refine lv_istore_n (lv' := [(3, .int (x3 ||| (1 <<< (x4 &&& 31)))), (0, .ref h), (1, .int a1), (2, .int a2), (4, .int x4)]) hx hb dX6_worn_45 rfl hl (by decide) rfl (fun ls hl => ?_)
            exact Ek46_9 _ _ _ _ hs hM (lv_sub hl [1, 2, 3, 0, 4] rfl)
    exact Lm_worn_l19 NF _ _ _ _ _ _ hs hM (lv_sub hl [2, 3, 4, 1, 0] rfl)
  · replace hs := ifp c13 hs
    refine lv_aload_n hx hb dX6_worn_8 rfl (lv_at hl 0 rfl) ?_
    refine lv_iconst (v := (-1)) hx hb dX6_worn_9 (by decide) ?_
    refine m_calli (rest := []) (av := fun ad => [.int (-1)]) X hK hA hM (met_no l (-1) _ _ hs) iX6_no q1662 ⟨Nat.le_of_ble_eq_true rfl, Nat.le_of_ble_eq_true rfl⟩ rfl hl.1 rfl (Nat.le_of_ble_eq_true rfl) dX6_worn_10 (fun r13 S12 H locs hs hM => ?_)
    exact m_reti X hK hM hs dX6_worn_13
def m_draw (a1 : Int32) (S : MS) (K : Int32 → MS → Prop) : Prop := ¬ (a1 : Int32) = 0 ∧ K (((((((S.1 8) * 1103515245) + 12345)).toUInt32 >>> ((16 : Int32).toUInt32 &&& Int32.toUInt32 31)).toInt32) - ((((((S.1 8) * 1103515245) + 12345)).toUInt32 >>> ((16 : Int32).toUInt32 &&& Int32.toUInt32 31)).toInt32) / a1 * a1) (mset S 8 (((S.1 8) * 1103515245) + 12345))
theorem iX6_draw : mInf yX6_draw cX6_draw 2 (some .int) 1 := ⟨q1984, qs88, q1985, by decide +kernel⟩
set_option maxHeartbeats 4000000 in
theorem met_draw (l : Launch) (a1 : Int32) (S : MS) (K : Int32 → MS → Prop) (hs : m_draw a1 S K) : mMeti l yX6_draw cX6_draw 2 0 0 S (fun ad => [.int a1]) K := by
  intro D dT h ad sz
  refine mEnter (Qc := mQi D dT h ad K) (by decide) rfl (by rfl) ?_
  intro p e s m args below meth c A ls X hK hA hM hl
  have hx := X.1
  have hb := X.2.1
  have hts := X.2.2.2.2.1
  have hown := X.2.2.2.2.2.1
  have hl : lv_has ls 2 [(0, .ref h), (1, .int a1)] := hl
  unfold m_draw at hs
  refine lv_aload_n hx hb dX6_draw_0 rfl (lv_at hl 0 rfl) ?_
  refine lv_aload_n hx hb dX6_draw_1 rfl (lv_at hl 0 rfl) ?_
  refine m_geti (v := .int (S.1 8)) X hK hM 8 q1484 rfl rfl rfl dX6_draw_2 ?_
  refine lv_ldcw hx hb hown (hts _ q1986) dX6_draw_5 ?_
  refine lv_imul hx hb dX6_draw_8 ?_
  refine lv_sipush (v := 12345) hx hb dX6_draw_9 (by decide) ?_
  refine lv_iadd hx hb dX6_draw_12 ?_
  refine m_puti X hK hM 8 q1484 rfl rfl rfl rfl rfl rfl dX6_draw_13 (fun H locs hM => ?_)
  refine lv_aload_n hx hb dX6_draw_16 rfl (lv_at hl 0 rfl) ?_
  refine m_geti (v := .int (((S.1 8) * 1103515245) + 12345)) X hK hM 8 q1484 rfl rfl rfl dX6_draw_17 ?_
  refine lv_bipush (v := 16) hx hb dX6_draw_20 (by decide) ?_
  refine lv_iushr (v := ((((((S.1 8) * 1103515245) + 12345)).toUInt32 >>> ((16 : Int32).toUInt32 &&& Int32.toUInt32 31)).toInt32)) hx hb dX6_draw_22 rfl ?_
  refine lv_iload_n hx hb dX6_draw_23 rfl (lv_at hl 1 rfl) ?_
  obtain ⟨z0, hs⟩ := hs
  refine lv_irem hx hb dX6_draw_24 z0 ?_
  exact m_reti X hK hM hs dX6_draw_25
def m_secondInTruth (S : MS) (K : MS → Prop) : Prop := (if (S.1 45) ≤ 0 then m_draw 100 S (fun r2 S1 => m_riskNow  S1 (fun r4 S3 => jn (fun (v5 : Int32) => m_puffs  S3 (fun S6 => (if v5 = 0 then m_stride  S6 (fun r8 S7 => K (mset S7 42 ((S6.1 42) + r8))) else m_falls  S6 (fun S9 => K S9)))) (fun k30_5 => (if r4 ≤ r2 then k30_5 0 else k30_5 1)))) else m_rests  S (fun S12 => K S12))
theorem iX6_secondInTruth : mInf yX6_secondInTruth cX6_secondInTruth 2 none 0 := ⟨q1980, qs87, q1981, by decide +kernel⟩
set_option maxHeartbeats 4000000 in
theorem met_secondInTruth (l : Launch)  (S : MS) (K : MS → Prop) (hs : m_secondInTruth  S K) : mMetv l yX6_secondInTruth cX6_secondInTruth 2 4 82 S (fun ad => []) K := by
  intro D dT h ad sz
  refine mEnter (Qc := mQv D dT h ad K) (by decide) rfl (by rfl) ?_
  intro p e s m args below meth c A ls X hK hA hM hl
  have hx := X.1
  have hb := X.2.1
  have hts := X.2.2.2.2.1
  have hown := X.2.2.2.2.2.1
  have hl : lv_has ls 2 [(0, .ref h)] := hl
  unfold m_secondInTruth at hs
  refine lv_aload_n hx hb dX6_secondInTruth_0 rfl (lv_at hl 0 rfl) ?_
  refine m_geti (v := .int (S.1 45)) X hK hM 45 q1521 rfl rfl rfl dX6_secondInTruth_1 ?_
  refine lv_if_le (tgt := 12) hx hb dX6_secondInTruth_4 (by decide) (fun c12 => ?_) (fun c12 => ?_)
  · replace hs := ifp c12 hs
    refine lv_aload_n hx hb dX6_secondInTruth_12 rfl (lv_at hl 0 rfl) ?_
    refine lv_bipush (v := 100) hx hb dX6_secondInTruth_13 (by decide) ?_
    refine m_calli (rest := []) (av := fun ad => [.int 100]) X hK hA hM (met_draw l 100 _ _ hs) iX6_draw q1982 ⟨Nat.le_of_ble_eq_true rfl, Nat.le_of_ble_eq_true rfl⟩ rfl hl.1 rfl (Nat.le_of_ble_eq_true rfl) dX6_secondInTruth_15 (fun r2 S1 H locs hs hM => ?_)
    refine lv_aload_n hx hb dX6_secondInTruth_18 rfl (lv_at hl 0 rfl) ?_
    refine m_calli (rest := [.int r2]) (av := fun ad => []) X hK hA hM (met_riskNow l  _ _ hs) iX6_riskNow q1842 ⟨Nat.le_of_ble_eq_true rfl, Nat.le_of_ble_eq_true rfl⟩ rfl hl.1 rfl (Nat.le_of_ble_eq_true rfl) dX6_secondInTruth_19 (fun r4 S3 H locs hs hM => ?_)
    obtain ⟨k30_5, hk30_5, hs⟩ := jn_ex hs
    have Ek30_5 : ∀ (v5 : Int32) (H : Heap) (locs : List Loc) (ls : Array Slot), k30_5 v5 → mI D dT A s.heap h ad S3 H locs → lv_has ls 2 [(0, .ref h)] → W p l e (mRm 4 82) s m args below meth c H locs 0 0 (MQ below (mQv D dT h ad K A) args s 0 0 A) (F0 m 30 ls [.int v5]) := by
      intro v5 H locs ls hs hM hl
      rw [hk30_5] at hs
      refine lv_istore_n (lv' := [(1, .int v5), (0, .ref h)]) hx hb dX6_secondInTruth_30 rfl hl (by decide) rfl (fun ls hl => ?_)
      refine lv_aload_n hx hb dX6_secondInTruth_31 rfl (lv_at hl 1 rfl) ?_
      refine m_callv (rest := []) (av := fun ad => []) X hK hA hM (met_puffs l  _ _ hs) iX6_puffs q1846 ⟨Nat.le_of_ble_eq_true rfl, Nat.le_of_ble_eq_true rfl⟩ rfl hl.1 rfl (Nat.le_of_ble_eq_true rfl) dX6_secondInTruth_32 (fun S6 H locs hs hM => ?_)
      refine lv_iload_n hx hb dX6_secondInTruth_35 rfl (lv_at hl 0 rfl) ?_
      refine lv_if_eq (tgt := 46) hx hb dX6_secondInTruth_36 (by decide) (fun c9 => ?_) (fun c9 => ?_)
      · replace hs := ifp c9 hs
        refine lv_aload_n hx hb dX6_secondInTruth_46 rfl (lv_at hl 1 rfl) ?_
        refine lv_dup hx hb dX6_secondInTruth_47 rfl ?_
        refine m_geti (v := .int (S6.1 42)) X hK hM 42 q1518 rfl rfl rfl dX6_secondInTruth_48 ?_
        refine lv_aload_n hx hb dX6_secondInTruth_51 rfl (lv_at hl 1 rfl) ?_
        refine m_calli (rest := [.int (S6.1 42), .ref h]) (av := fun ad => []) X hK hA hM (met_stride l  _ _ hs) iX6_stride q1710 ⟨Nat.le_of_ble_eq_true rfl, Nat.le_of_ble_eq_true rfl⟩ rfl hl.1 rfl (Nat.le_of_ble_eq_true rfl) dX6_secondInTruth_52 (fun r8 S7 H locs hs hM => ?_)
        refine lv_iadd hx hb dX6_secondInTruth_55 ?_
        refine m_puti X hK hM 42 q1518 rfl rfl rfl rfl rfl rfl dX6_secondInTruth_56 (fun H locs hM => ?_)
        exact m_retv X hK hM hs dX6_secondInTruth_59
      · replace hs := ifn c9 hs
        refine lv_aload_n hx hb dX6_secondInTruth_39 rfl (lv_at hl 1 rfl) ?_
        refine m_callv (rest := []) (av := fun ad => []) X hK hA hM (met_falls l  _ _ hs) iX6_falls q1850 ⟨Nat.le_of_ble_eq_true rfl, Nat.le_of_ble_eq_true rfl⟩ rfl hl.1 rfl (Nat.le_of_ble_eq_true rfl) dX6_secondInTruth_40 (fun S9 H locs hs hM => ?_)
        refine lv_goto (tgt := 59) hx hb dX6_secondInTruth_43 (by decide) ?_
        exact m_retv X hK hM hs dX6_secondInTruth_59
    refine lv_icmp_ge (tgt := 29) hx hb dX6_secondInTruth_22 (by decide) (fun c10 => ?_) (fun c10 => ?_)
    · replace hs := ifp c10 hs
      refine lv_iconst (v := 0) hx hb dX6_secondInTruth_29 (by decide) ?_
      exact Ek30_5 _ _ _ _ hs hM hl
    · replace hs := ifn c10 hs
      refine lv_iconst (v := 1) hx hb dX6_secondInTruth_25 (by decide) ?_
      refine lv_goto (tgt := 30) hx hb dX6_secondInTruth_26 (by decide) ?_
      exact Ek30_5 _ _ _ _ hs hM hl
  · replace hs := ifn c12 hs
    refine lv_aload_n hx hb dX6_secondInTruth_7 rfl (lv_at hl 0 rfl) ?_
    refine m_callv (rest := []) (av := fun ad => []) X hK hA hM (met_rests l  _ _ hs) iX6_rests q1838 ⟨Nat.le_of_ble_eq_true rfl, Nat.le_of_ble_eq_true rfl⟩ rfl hl.1 rfl (Nat.le_of_ble_eq_true rfl) dX6_secondInTruth_8 (fun S12 H locs hs hM => ?_)
    exact m_retv X hK hM hs dX6_secondInTruth_11
def m_raced_l232 (S3 : MS) (k280_5 : Int32 → Prop) : Nat → Int32 → Int32 → Prop
  | 0, _, _ => False
  | n232_11 + 1, x10, x11 => (if (S3.1 0) ≤ x11 then k280_5 x10 else obd (mald S3 55 x11) (fun v13 => jn (fun (x14 : Int32) => m_raced_l232 S3 k280_5 n232_11 x14 (x11 + 1)) (fun k274_14 => (if 999 ≤ v13 then k274_14 x10 else jn (k274_14 x11) (fun k272_14 => (if x10 = (-1) then k272_14 else obd (mald S3 55 x11) (fun v15 => obd (mald S3 55 x10) (fun v16 => (if v16 ≤ v15 then k274_14 x10 else k272_14)))))))))
theorem m_raced_l232_s (S3 : MS) (k280_5 : Int32 → Prop) (n232_11 : Nat) (x10 : Int32) (x11 : Int32) : m_raced_l232 S3 k280_5 (n232_11 + 1) x10 x11 = ((if (S3.1 0) ≤ x11 then k280_5 x10 else obd (mald S3 55 x11) (fun v13 => jn (fun (x14 : Int32) => m_raced_l232 S3 k280_5 n232_11 x14 (x11 + 1)) (fun k274_14 => (if 999 ≤ v13 then k274_14 x10 else jn (k274_14 x11) (fun k272_14 => (if x10 = (-1) then k272_14 else obd (mald S3 55 x11) (fun v15 => obd (mald S3 55 x10) (fun v16 => (if v16 ≤ v15 then k274_14 x10 else k272_14)))))))))) := rfl
def m_raced_l101 (x21 : Int32) (k222_24 : MS → Prop) : Nat → Int32 → MS → Prop
  | 0, _, _ => False
  | n101_27 + 1, x26, S27 => (if (S27.1 0) ≤ x26 then k222_24 S27 else obd (mald S27 52 x26) (fun v29 => jn (fun (S30 : MS) => m_raced_l101 x21 k222_24 n101_27 (x26 + 1) S30) (fun k216_30 => (if v29 < (S27.1 2) then m_puts x26 S27 (fun S31 => obd (mald S31 52 x26) (fun v32 => obd (mald (mset S31 42 v32) 53 x26) (fun v33 => obd (mald (mset (mset S31 42 v32) 43 v33) 54 x26) (fun v34 => m_secondInTruth  (mset (mset (mset S31 42 v32) 43 v33) 45 v34) (fun S35 => obd (mast S35 52 x26 (S35.1 42)) (fun S36 => obd (mast S36 53 x26 (S36.1 43)) (fun S37 => obd (mast S37 54 x26 (S37.1 45)) (fun S38 => (if (S38.1 42) < (S38.1 2) then k216_30 S38 else m_withRope x21 S38 (fun r40 S39 => obd (mast S39 55 x26 r40) (fun S41 => k216_30 S41))))))))))) else k216_30 S27))))
theorem m_raced_l101_s (x21 : Int32) (k222_24 : MS → Prop) (n101_27 : Nat) (x26 : Int32) (S27 : MS) : m_raced_l101 x21 k222_24 (n101_27 + 1) x26 S27 = ((if (S27.1 0) ≤ x26 then k222_24 S27 else obd (mald S27 52 x26) (fun v29 => jn (fun (S30 : MS) => m_raced_l101 x21 k222_24 n101_27 (x26 + 1) S30) (fun k216_30 => (if v29 < (S27.1 2) then m_puts x26 S27 (fun S31 => obd (mald S31 52 x26) (fun v32 => obd (mald (mset S31 42 v32) 53 x26) (fun v33 => obd (mald (mset (mset S31 42 v32) 43 v33) 54 x26) (fun v34 => m_secondInTruth  (mset (mset (mset S31 42 v32) 43 v33) 45 v34) (fun S35 => obd (mast S35 52 x26 (S35.1 42)) (fun S36 => obd (mast S36 53 x26 (S36.1 43)) (fun S37 => obd (mast S37 54 x26 (S37.1 45)) (fun S38 => (if (S38.1 42) < (S38.1 2) then k216_30 S38 else m_withRope x21 S38 (fun r40 S39 => obd (mast S39 55 x26 r40) (fun S41 => k216_30 S41))))))))))) else k216_30 S27))))) := rfl
def m_raced_l92 (k228_3 : MS → Prop) : Nat → Int32 → MS → Prop
  | 0, _, _ => False
  | n92_22 + 1, x21, S22 => (if 999 < x21 then k228_3 S22 else jn (fun (S24 : MS) => m_raced_l92 k228_3 n92_22 (x21 + 1) S24) (fun k222_24 => m_raced_l101 x21 k222_24 NF 0 S22))
theorem m_raced_l92_s (k228_3 : MS → Prop) (n92_22 : Nat) (x21 : Int32) (S22 : MS) : m_raced_l92 k228_3 (n92_22 + 1) x21 S22 = ((if 999 < x21 then k228_3 S22 else jn (fun (S24 : MS) => m_raced_l92 k228_3 n92_22 (x21 + 1) S24) (fun k222_24 => m_raced_l101 x21 k222_24 NF 0 S22))) := rfl
def m_raced_l12 (k90_1 : MS → Prop) : Nat → Int32 → MS → Prop
  | 0, _, _ => False
  | n12_47 + 1, x46, S47 => (if (S47.1 0) ≤ x46 then k90_1 S47 else m_puts x46 S47 (fun S49 => m_starts  S49 (fun S50 => obd (mast S50 52 x46 (S50.1 42)) (fun S51 => obd (mast S51 53 x46 (S51.1 43)) (fun S52 => obd (mast S52 54 x46 0) (fun S53 => jn (fun (v54 : Int32) (S55 : MS) => obd (mast S55 55 x46 v54) (fun S56 => m_raced_l12 k90_1 n12_47 (x46 + 1) S56)) (fun k83_55 => (if (S53.1 2) ≤ (S53.1 42) then m_withRope 0 S53 (fun r58 S57 => k83_55 r58 S57) else k83_55 999 S53))))))))
theorem m_raced_l12_s (k90_1 : MS → Prop) (n12_47 : Nat) (x46 : Int32) (S47 : MS) : m_raced_l12 k90_1 (n12_47 + 1) x46 S47 = ((if (S47.1 0) ≤ x46 then k90_1 S47 else m_puts x46 S47 (fun S49 => m_starts  S49 (fun S50 => obd (mast S50 52 x46 (S50.1 42)) (fun S51 => obd (mast S51 53 x46 (S51.1 43)) (fun S52 => obd (mast S52 54 x46 0) (fun S53 => jn (fun (v54 : Int32) (S55 : MS) => obd (mast S55 55 x46 v54) (fun S56 => m_raced_l12 k90_1 n12_47 (x46 + 1) S56)) (fun k83_55 => (if (S53.1 2) ≤ (S53.1 42) then m_withRope 0 S53 (fun r58 S57 => k83_55 r58 S57) else k83_55 999 S53))))))))) := rfl
def m_raced (S : MS) (K : Int32 → MS → Prop) : Prop := jn (fun (S1 : MS) => jn (fun (S3 : MS) => jn (fun (x5 : Int32) => (if x5 = (-1) then K x5 S3 else obd (mald S3 16 x5) (fun v7 => obd (mast S3 16 x5 (v7 + 1)) (fun S8 => K x5 S8)))) (fun k280_5 => m_raced_l232 S3 k280_5 NF (-1) 0)) (fun k228_3 => m_raced_l92 k228_3 NF 1 S1)) (fun k90_1 => m_raced_l12 k90_1 NF 0 (mset S 7 ((S.1 7) + 1)))
theorem iX6_raced : mInf yX6_raced cX6_raced 3 (some .int) 0 := ⟨q1976, qs86, q1977, by decide +kernel⟩
set_option maxHeartbeats 4000000 in
theorem met_raced (l : Launch)  (S : MS) (K : Int32 → MS → Prop) (hs : m_raced  S K) : mMeti l yX6_raced cX6_raced 3 5 103 S (fun ad => []) K := by
  intro D dT h ad sz
  refine mEnter (Qc := mQi D dT h ad K) (by decide) rfl (by rfl) ?_
  intro p e s m args below meth c A ls X hK hA hM hl
  have hx := X.1
  have hb := X.2.1
  have hts := X.2.2.2.2.1
  have hown := X.2.2.2.2.2.1
  have hl : lv_has ls 3 [(0, .ref h)] := hl
  unfold m_raced at hs
  refine lv_aload_n hx hb dX6_raced_0 rfl (lv_at hl 0 rfl) ?_
  refine lv_dup hx hb dX6_raced_1 rfl ?_
  refine m_geti (v := .int (S.1 7)) X hK hM 7 q1483 rfl rfl rfl dX6_raced_2 ?_
  refine lv_iconst (v := 1) hx hb dX6_raced_5 (by decide) ?_
  refine lv_iadd hx hb dX6_raced_6 ?_
  refine m_puti X hK hM 7 q1483 rfl rfl rfl rfl rfl rfl dX6_raced_7 (fun H locs hM => ?_)
  refine lv_iconst (v := 0) hx hb dX6_raced_10 (by decide) ?_
  refine lv_istore_n (lv' := [(1, .int 0), (0, .ref h)]) hx hb dX6_raced_11 rfl hl (by decide) rfl (fun ls hl => ?_)
  obtain ⟨k90_1, hk90_1, hs⟩ := jn_ex hs
  have Ek90_1 : ∀ (S1 : MS) (H : Heap) (locs : List Loc) (ls : Array Slot), k90_1 S1 → mI D dT A s.heap h ad S1 H locs → lv_has ls 3 [(0, .ref h)] → W p l e (mRm 5 103) s m args below meth c H locs 0 0 (MQ below (mQi D dT h ad K A) args s 0 0 A) (F0 m 90 ls []) := by
    intro S1 H locs ls hs hM hl
    rw [hk90_1] at hs
    refine lv_iconst (v := 1) hx hb dX6_raced_90 (by decide) ?_
    refine lv_istore_n (lv' := [(1, .int 1), (0, .ref h)]) hx hb dX6_raced_91 rfl hl (by decide) rfl (fun ls hl => ?_)
    obtain ⟨k228_3, hk228_3, hs⟩ := jn_ex hs
    have Ek228_3 : ∀ (S3 : MS) (H : Heap) (locs : List Loc) (ls : Array Slot), k228_3 S3 → mI D dT A s.heap h ad S3 H locs → lv_has ls 3 [(0, .ref h)] → W p l e (mRm 5 103) s m args below meth c H locs 0 0 (MQ below (mQi D dT h ad K A) args s 0 0 A) (F0 m 228 ls []) := by
      intro S3 H locs ls hs hM hl
      rw [hk228_3] at hs
      refine lv_iconst (v := (-1)) hx hb dX6_raced_228 (by decide) ?_
      refine lv_istore_n (lv' := [(1, .int (-1)), (0, .ref h)]) hx hb dX6_raced_229 rfl hl (by decide) rfl (fun ls hl => ?_)
      refine lv_iconst (v := 0) hx hb dX6_raced_230 (by decide) ?_
      refine lv_istore_n (lv' := [(2, .int 0), (1, .int (-1)), (0, .ref h)]) hx hb dX6_raced_231 rfl hl (by decide) rfl (fun ls hl => ?_)
      obtain ⟨k280_5, hk280_5, hs⟩ := jn_ex hs
      have Ek280_5 : ∀ (x5 : Int32) (H : Heap) (locs : List Loc) (ls : Array Slot), k280_5 x5 → mI D dT A s.heap h ad S3 H locs → lv_has ls 3 [(0, .ref h), (1, .int x5)] → W p l e (mRm 5 103) s m args below meth c H locs 0 0 (MQ below (mQi D dT h ad K A) args s 0 0 A) (F0 m 280 ls []) := by
        intro x5 H locs ls hs hM hl
        rw [hk280_5] at hs
        refine lv_iload_n hx hb dX6_raced_280 rfl (lv_at hl 1 rfl) ?_
        refine lv_iconst (v := (-1)) hx hb dX6_raced_281 (by decide) ?_
        refine lv_icmp_eq (tgt := 295) hx hb dX6_raced_282 (by decide) (fun c8 => ?_) (fun c8 => ?_)
        · replace hs := ifp c8 hs
          refine lv_iload_n hx hb dX6_raced_295 rfl (lv_at hl 1 rfl) ?_
          exact m_reti X hK hM hs dX6_raced_296
        · replace hs := ifn c8 hs
          refine lv_aload_n hx hb dX6_raced_285 rfl (lv_at hl 0 rfl) ?_
          refine m_geti (v := .ref (ad 16)) X hK hM 16 q1492 rfl rfl rfl dX6_raced_286 ?_
          refine lv_iload_n hx hb dX6_raced_289 rfl (lv_at hl 1 rfl) ?_
          refine lv_dup2_11 hx hb dX6_raced_290 rfl rfl ?_
          obtain ⟨v7, ev7, hs⟩ := hs
          refine m_iald X hK hM rfl ev7 dX6_raced_291 ?_
          refine lv_iconst (v := 1) hx hb dX6_raced_292 (by decide) ?_
          refine lv_iadd hx hb dX6_raced_293 ?_
          obtain ⟨S8, eS8, hs⟩ := hs
          refine m_iast X hK hM rfl eS8 dX6_raced_294 (fun H locs hM => ?_)
          refine lv_iload_n hx hb dX6_raced_295 rfl (lv_at hl 1 rfl) ?_
          exact m_reti X hK hM hs dX6_raced_296
      have Lm_raced_l232 : ∀ (n232_11 : Nat) (x10 : Int32) (x11 : Int32) (H : Heap) (locs : List Loc) (ls : Array Slot), m_raced_l232 S3 k280_5 n232_11 x10 x11 → mI D dT A s.heap h ad S3 H locs → lv_has ls 3 [(0, .ref h), (1, .int x10), (2, .int x11)] → W p l e (mRm 5 103) s m args below meth c H locs 0 0 (MQ below (mQi D dT h ad K A) args s 0 0 A) (F0 m 232 ls []) := by
        intro n232_11
        induction n232_11 with
        | zero =>
          intro x10 x11 H locs ls hs
          exact False.elim hs
        | succ n232_11 ihm_raced_l232 =>
          intro x10 x11 H locs ls hs hM hl
          rw [m_raced_l232_s] at hs
          refine lv_iload_n hx hb dX6_raced_232 rfl (lv_at hl 2 rfl) ?_
          refine lv_aload_n hx hb dX6_raced_233 rfl (lv_at hl 0 rfl) ?_
          refine m_geti (v := .int (S3.1 0)) X hK hM 0 q1476 rfl rfl rfl dX6_raced_234 ?_
          refine lv_icmp_ge (tgt := 280) hx hb dX6_raced_237 (by decide) (fun c19 => ?_) (fun c19 => ?_)
          · replace hs := ifp c19 hs
            exact Ek280_5 _ _ _ _ hs hM (lv_sub hl [0, 1] rfl)
          · replace hs := ifn c19 hs
            refine lv_aload_n hx hb dX6_raced_240 rfl (lv_at hl 0 rfl) ?_
            refine m_geti (v := .ref (ad 55)) X hK hM 55 q1531 rfl rfl rfl dX6_raced_241 ?_
            refine lv_iload_n hx hb dX6_raced_244 rfl (lv_at hl 2 rfl) ?_
            obtain ⟨v13, ev13, hs⟩ := hs
            refine m_iald X hK hM rfl ev13 dX6_raced_245 ?_
            refine lv_sipush (v := 999) hx hb dX6_raced_246 (by decide) ?_
            obtain ⟨k274_14, hk274_14, hs⟩ := jn_ex hs
            have Ek274_14 : ∀ (x14 : Int32) (H : Heap) (locs : List Loc) (ls : Array Slot), k274_14 x14 → mI D dT A s.heap h ad S3 H locs → lv_has ls 3 [(0, .ref h), (1, .int x14), (2, .int x11)] → W p l e (mRm 5 103) s m args below meth c H locs 0 0 (MQ below (mQi D dT h ad K A) args s 0 0 A) (F0 m 274 ls []) := by
              intro x14 H locs ls hs hM hl
              rw [hk274_14] at hs
              refine lv_iinc (v := (x11 + 1)) (lv' := [(2, .int (x11 + 1)), (0, .ref h), (1, .int x14)]) hx hb dX6_raced_274 hl (k := 2) rfl (congrArg (fun z => x11 + z) (show Int32.ofInt (1) = 1 by decide)) (by decide) rfl (fun ls hl => ?_)
              refine lv_goto (tgt := 232) hx hb dX6_raced_277 (by decide) ?_
              exact ihm_raced_l232 _ _ _ _ _ hs hM (lv_sub hl [1, 2, 0] rfl)
            refine lv_icmp_ge (tgt := 274) hx hb dX6_raced_249 (by decide) (fun c18 => ?_) (fun c18 => ?_)
            · replace hs := ifp c18 hs
              exact Ek274_14 _ _ _ _ hs hM hl
            · replace hs := ifn c18 hs
              refine lv_iload_n hx hb dX6_raced_252 rfl (lv_at hl 1 rfl) ?_
              refine lv_iconst (v := (-1)) hx hb dX6_raced_253 (by decide) ?_
              obtain ⟨k272_14, hk272_14, hs⟩ := jn_ex hs
              have Ek272_14 : ∀ (H : Heap) (locs : List Loc) (ls : Array Slot), k272_14 → mI D dT A s.heap h ad S3 H locs → lv_has ls 3 [(0, .ref h), (2, .int x11)] → W p l e (mRm 5 103) s m args below meth c H locs 0 0 (MQ below (mQi D dT h ad K A) args s 0 0 A) (F0 m 272 ls []) := by
                intro H locs ls hs hM hl
                rw [hk272_14] at hs
                refine lv_iload_n hx hb dX6_raced_272 rfl (lv_at hl 1 rfl) ?_
                refine lv_istore_n (lv' := [(1, .int x11), (0, .ref h), (2, .int x11)]) hx hb dX6_raced_273 rfl hl (by decide) rfl (fun ls hl => ?_)
                exact Ek274_14 _ _ _ _ hs hM (lv_sub hl [1, 0, 2] rfl)
              refine lv_icmp_eq (tgt := 272) hx hb dX6_raced_254 (by decide) (fun c17 => ?_) (fun c17 => ?_)
              · replace hs := ifp c17 hs
                exact Ek272_14 _ _ _ hs hM (lv_sub hl [0, 2] rfl)
              · replace hs := ifn c17 hs
                refine lv_aload_n hx hb dX6_raced_257 rfl (lv_at hl 0 rfl) ?_
                refine m_geti (v := .ref (ad 55)) X hK hM 55 q1531 rfl rfl rfl dX6_raced_258 ?_
                refine lv_iload_n hx hb dX6_raced_261 rfl (lv_at hl 2 rfl) ?_
                obtain ⟨v15, ev15, hs⟩ := hs
                refine m_iald X hK hM rfl ev15 dX6_raced_262 ?_
                refine lv_aload_n hx hb dX6_raced_263 rfl (lv_at hl 0 rfl) ?_
                refine m_geti (v := .ref (ad 55)) X hK hM 55 q1531 rfl rfl rfl dX6_raced_264 ?_
                refine lv_iload_n hx hb dX6_raced_267 rfl (lv_at hl 1 rfl) ?_
                obtain ⟨v16, ev16, hs⟩ := hs
                refine m_iald X hK hM rfl ev16 dX6_raced_268 ?_
                refine lv_icmp_ge (tgt := 274) hx hb dX6_raced_269 (by decide) (fun c16 => ?_) (fun c16 => ?_)
                · replace hs := ifp c16 hs
                  exact Ek274_14 _ _ _ _ hs hM hl
                · replace hs := ifn c16 hs
                  exact Ek272_14 _ _ _ hs hM (lv_sub hl [0, 2] rfl)
      exact Lm_raced_l232 NF _ _ _ _ _ hs hM (lv_sub hl [2, 1, 0] rfl)
    have Lm_raced_l92 : ∀ (n92_22 : Nat) (x21 : Int32) (S22 : MS) (H : Heap) (locs : List Loc) (ls : Array Slot), m_raced_l92 k228_3 n92_22 x21 S22 → mI D dT A s.heap h ad S22 H locs → lv_has ls 3 [(0, .ref h), (1, .int x21)] → W p l e (mRm 5 103) s m args below meth c H locs 0 0 (MQ below (mQi D dT h ad K A) args s 0 0 A) (F0 m 92 ls []) := by
      intro n92_22
      induction n92_22 with
      | zero =>
        intro x21 S22 H locs ls hs
        exact False.elim hs
      | succ n92_22 ihm_raced_l92 =>
        intro x21 S22 H locs ls hs hM hl
        rw [m_raced_l92_s] at hs
        refine lv_iload_n hx hb dX6_raced_92 rfl (lv_at hl 1 rfl) ?_
        refine lv_sipush (v := 999) hx hb dX6_raced_93 (by decide) ?_
        refine lv_icmp_gt (tgt := 228) hx hb dX6_raced_96 (by decide) (fun c44 => ?_) (fun c44 => ?_)
        · replace hs := ifp c44 hs
          exact Ek228_3 _ _ _ _ hs hM (lv_sub hl [0] rfl)
        · replace hs := ifn c44 hs
          refine lv_iconst (v := 0) hx hb dX6_raced_99 (by decide) ?_
          refine lv_istore_n (lv' := [(2, .int 0), (0, .ref h), (1, .int x21)]) hx hb dX6_raced_100 rfl hl (by decide) rfl (fun ls hl => ?_)
          obtain ⟨k222_24, hk222_24, hs⟩ := jn_ex hs
          have Ek222_24 : ∀ (S24 : MS) (H : Heap) (locs : List Loc) (ls : Array Slot), k222_24 S24 → mI D dT A s.heap h ad S24 H locs → lv_has ls 3 [(0, .ref h), (1, .int x21)] → W p l e (mRm 5 103) s m args below meth c H locs 0 0 (MQ below (mQi D dT h ad K A) args s 0 0 A) (F0 m 222 ls []) := by
            intro S24 H locs ls hs hM hl
            rw [hk222_24] at hs
            refine lv_iinc (v := (x21 + 1)) (lv' := [(1, .int (x21 + 1)), (0, .ref h)]) hx hb dX6_raced_222 hl (k := 1) rfl (congrArg (fun z => x21 + z) (show Int32.ofInt (1) = 1 by decide)) (by decide) rfl (fun ls hl => ?_)
            refine lv_goto (tgt := 92) hx hb dX6_raced_225 (by decide) ?_
            exact ihm_raced_l92 _ _ _ _ _ hs hM (lv_sub hl [1, 0] rfl)
          have Lm_raced_l101 : ∀ (n101_27 : Nat) (x26 : Int32) (S27 : MS) (H : Heap) (locs : List Loc) (ls : Array Slot), m_raced_l101 x21 k222_24 n101_27 x26 S27 → mI D dT A s.heap h ad S27 H locs → lv_has ls 3 [(0, .ref h), (1, .int x21), (2, .int x26)] → W p l e (mRm 5 103) s m args below meth c H locs 0 0 (MQ below (mQi D dT h ad K A) args s 0 0 A) (F0 m 101 ls []) := by
            intro n101_27
            induction n101_27 with
            | zero =>
              intro x26 S27 H locs ls hs
              exact False.elim hs
            | succ n101_27 ihm_raced_l101 =>
              intro x26 S27 H locs ls hs hM hl
              rw [m_raced_l101_s] at hs
              refine lv_iload_n hx hb dX6_raced_101 rfl (lv_at hl 2 rfl) ?_
              refine lv_aload_n hx hb dX6_raced_102 rfl (lv_at hl 0 rfl) ?_
              refine m_geti (v := .int (S27.1 0)) X hK hM 0 q1476 rfl rfl rfl dX6_raced_103 ?_
              refine lv_icmp_ge (tgt := 222) hx hb dX6_raced_106 (by decide) (fun c43 => ?_) (fun c43 => ?_)
              · replace hs := ifp c43 hs
                exact Ek222_24 _ _ _ _ hs hM (lv_sub hl [0, 1] rfl)
              · replace hs := ifn c43 hs
                refine lv_aload_n hx hb dX6_raced_109 rfl (lv_at hl 0 rfl) ?_
                refine m_geti (v := .ref (ad 52)) X hK hM 52 q1528 rfl rfl rfl dX6_raced_110 ?_
                refine lv_iload_n hx hb dX6_raced_113 rfl (lv_at hl 2 rfl) ?_
                obtain ⟨v29, ev29, hs⟩ := hs
                refine m_iald X hK hM rfl ev29 dX6_raced_114 ?_
                refine lv_aload_n hx hb dX6_raced_115 rfl (lv_at hl 0 rfl) ?_
                refine m_geti (v := .int (S27.1 2)) X hK hM 2 q1478 rfl rfl rfl dX6_raced_116 ?_
                obtain ⟨k216_30, hk216_30, hs⟩ := jn_ex hs
                have Ek216_30 : ∀ (S30 : MS) (H : Heap) (locs : List Loc) (ls : Array Slot), k216_30 S30 → mI D dT A s.heap h ad S30 H locs → lv_has ls 3 [(0, .ref h), (1, .int x21), (2, .int x26)] → W p l e (mRm 5 103) s m args below meth c H locs 0 0 (MQ below (mQi D dT h ad K A) args s 0 0 A) (F0 m 216 ls []) := by
                  intro S30 H locs ls hs hM hl
                  rw [hk216_30] at hs
                  refine lv_iinc (v := (x26 + 1)) (lv' := [(2, .int (x26 + 1)), (0, .ref h), (1, .int x21)]) hx hb dX6_raced_216 hl (k := 2) rfl (congrArg (fun z => x26 + z) (show Int32.ofInt (1) = 1 by decide)) (by decide) rfl (fun ls hl => ?_)
                  refine lv_goto (tgt := 101) hx hb dX6_raced_219 (by decide) ?_
                  exact ihm_raced_l101 _ _ _ _ _ hs hM (lv_sub hl [1, 2, 0] rfl)
                refine lv_icmp_lt (tgt := 125) hx hb dX6_raced_119 (by decide) (fun c42 => ?_) (fun c42 => ?_)
                · replace hs := ifp c42 hs
                  refine lv_aload_n hx hb dX6_raced_125 rfl (lv_at hl 0 rfl) ?_
                  refine lv_iload_n hx hb dX6_raced_126 rfl (lv_at hl 2 rfl) ?_
                  refine m_callv (rest := []) (av := fun ad => [.int x26]) X hK hA hM (met_puts l x26 _ _ hs) iX6_puts q1694 ⟨Nat.le_of_ble_eq_true rfl, Nat.le_of_ble_eq_true rfl⟩ rfl hl.1 rfl (Nat.le_of_ble_eq_true rfl) dX6_raced_127 (fun S31 H locs hs hM => ?_)
                  refine lv_aload_n hx hb dX6_raced_130 rfl (lv_at hl 0 rfl) ?_
                  refine lv_aload_n hx hb dX6_raced_131 rfl (lv_at hl 0 rfl) ?_
                  refine m_geti (v := .ref (ad 52)) X hK hM 52 q1528 rfl rfl rfl dX6_raced_132 ?_
                  refine lv_iload_n hx hb dX6_raced_135 rfl (lv_at hl 2 rfl) ?_
                  obtain ⟨v32, ev32, hs⟩ := hs
                  refine m_iald X hK hM rfl ev32 dX6_raced_136 ?_
                  refine m_puti X hK hM 42 q1518 rfl rfl rfl rfl rfl rfl dX6_raced_137 (fun H locs hM => ?_)
                  refine lv_aload_n hx hb dX6_raced_140 rfl (lv_at hl 0 rfl) ?_
                  refine lv_aload_n hx hb dX6_raced_141 rfl (lv_at hl 0 rfl) ?_
                  refine m_geti (v := .ref (ad 53)) X hK hM 53 q1529 rfl rfl rfl dX6_raced_142 ?_
                  refine lv_iload_n hx hb dX6_raced_145 rfl (lv_at hl 2 rfl) ?_
                  obtain ⟨v33, ev33, hs⟩ := hs
                  refine m_iald X hK hM rfl ev33 dX6_raced_146 ?_
                  refine m_puti X hK hM 43 q1519 rfl rfl rfl rfl rfl rfl dX6_raced_147 (fun H locs hM => ?_)
                  refine lv_aload_n hx hb dX6_raced_150 rfl (lv_at hl 0 rfl) ?_
                  refine lv_aload_n hx hb dX6_raced_151 rfl (lv_at hl 0 rfl) ?_
                  refine m_geti (v := .ref (ad 54)) X hK hM 54 q1530 rfl rfl rfl dX6_raced_152 ?_
                  refine lv_iload_n hx hb dX6_raced_155 rfl (lv_at hl 2 rfl) ?_
                  obtain ⟨v34, ev34, hs⟩ := hs
                  refine m_iald X hK hM rfl ev34 dX6_raced_156 ?_
                  refine m_puti X hK hM 45 q1521 rfl rfl rfl rfl rfl rfl dX6_raced_157 (fun H locs hM => ?_)
                  refine lv_aload_n hx hb dX6_raced_160 rfl (lv_at hl 0 rfl) ?_
                  refine m_callv (rest := []) (av := fun ad => []) X hK hA hM (met_secondInTruth l  _ _ hs) iX6_secondInTruth q1978 ⟨Nat.le_of_ble_eq_true rfl, Nat.le_of_ble_eq_true rfl⟩ rfl hl.1 rfl (Nat.le_of_ble_eq_true rfl) dX6_raced_161 (fun S35 H locs hs hM => ?_)
                  refine lv_aload_n hx hb dX6_raced_164 rfl (lv_at hl 0 rfl) ?_
                  refine m_geti (v := .ref (ad 52)) X hK hM 52 q1528 rfl rfl rfl dX6_raced_165 ?_
                  refine lv_iload_n hx hb dX6_raced_168 rfl (lv_at hl 2 rfl) ?_
                  refine lv_aload_n hx hb dX6_raced_169 rfl (lv_at hl 0 rfl) ?_
                  refine m_geti (v := .int (S35.1 42)) X hK hM 42 q1518 rfl rfl rfl dX6_raced_170 ?_
                  obtain ⟨S36, eS36, hs⟩ := hs
                  refine m_iast X hK hM rfl eS36 dX6_raced_173 (fun H locs hM => ?_)
                  refine lv_aload_n hx hb dX6_raced_174 rfl (lv_at hl 0 rfl) ?_
                  refine m_geti (v := .ref (ad 53)) X hK hM 53 q1529 rfl rfl rfl dX6_raced_175 ?_
                  refine lv_iload_n hx hb dX6_raced_178 rfl (lv_at hl 2 rfl) ?_
                  refine lv_aload_n hx hb dX6_raced_179 rfl (lv_at hl 0 rfl) ?_
                  refine m_geti (v := .int (S36.1 43)) X hK hM 43 q1519 rfl rfl rfl dX6_raced_180 ?_
                  obtain ⟨S37, eS37, hs⟩ := hs
                  refine m_iast X hK hM rfl eS37 dX6_raced_183 (fun H locs hM => ?_)
                  refine lv_aload_n hx hb dX6_raced_184 rfl (lv_at hl 0 rfl) ?_
                  refine m_geti (v := .ref (ad 54)) X hK hM 54 q1530 rfl rfl rfl dX6_raced_185 ?_
                  refine lv_iload_n hx hb dX6_raced_188 rfl (lv_at hl 2 rfl) ?_
                  refine lv_aload_n hx hb dX6_raced_189 rfl (lv_at hl 0 rfl) ?_
                  refine m_geti (v := .int (S37.1 45)) X hK hM 45 q1521 rfl rfl rfl dX6_raced_190 ?_
                  obtain ⟨S38, eS38, hs⟩ := hs
                  refine m_iast X hK hM rfl eS38 dX6_raced_193 (fun H locs hM => ?_)
                  refine lv_aload_n hx hb dX6_raced_194 rfl (lv_at hl 0 rfl) ?_
                  refine m_geti (v := .int (S38.1 42)) X hK hM 42 q1518 rfl rfl rfl dX6_raced_195 ?_
                  refine lv_aload_n hx hb dX6_raced_198 rfl (lv_at hl 0 rfl) ?_
                  refine m_geti (v := .int (S38.1 2)) X hK hM 2 q1478 rfl rfl rfl dX6_raced_199 ?_
                  refine lv_icmp_lt (tgt := 216) hx hb dX6_raced_202 (by decide) (fun c41 => ?_) (fun c41 => ?_)
                  · replace hs := ifp c41 hs
                    exact Ek216_30 _ _ _ _ hs hM hl
                  · replace hs := ifn c41 hs
                    refine lv_aload_n hx hb dX6_raced_205 rfl (lv_at hl 0 rfl) ?_
                    refine m_geti (v := .ref (ad 55)) X hK hM 55 q1531 rfl rfl rfl dX6_raced_206 ?_
                    refine lv_iload_n hx hb dX6_raced_209 rfl (lv_at hl 2 rfl) ?_
                    refine lv_aload_n hx hb dX6_raced_210 rfl (lv_at hl 0 rfl) ?_
                    refine lv_iload_n hx hb dX6_raced_211 rfl (lv_at hl 1 rfl) ?_
                    refine m_calli (rest := [.int x26, .ref (ad 55)]) (av := fun ad => [.int x21]) X hK hA hM (met_withRope l x21 _ _ hs) iX6_withRope q1866 ⟨Nat.le_of_ble_eq_true rfl, Nat.le_of_ble_eq_true rfl⟩ rfl hl.1 rfl (Nat.le_of_ble_eq_true rfl) dX6_raced_212 (fun r40 S39 H locs hs hM => ?_)
                    obtain ⟨S41, eS41, hs⟩ := hs
                    refine m_iast X hK hM rfl eS41 dX6_raced_215 (fun H locs hM => ?_)
                    exact Ek216_30 _ _ _ _ hs hM hl
                · replace hs := ifn c42 hs
                  refine lv_goto (tgt := 216) hx hb dX6_raced_122 (by decide) ?_
                  exact Ek216_30 _ _ _ _ hs hM hl
          exact Lm_raced_l101 NF _ _ _ _ _ hs hM (lv_sub hl [1, 2, 0] rfl)
    exact Lm_raced_l92 NF _ _ _ _ _ hs hM (lv_sub hl [1, 0] rfl)
  have Lm_raced_l12 : ∀ (n12_47 : Nat) (x46 : Int32) (S47 : MS) (H : Heap) (locs : List Loc) (ls : Array Slot), m_raced_l12 k90_1 n12_47 x46 S47 → mI D dT A s.heap h ad S47 H locs → lv_has ls 3 [(0, .ref h), (1, .int x46)] → W p l e (mRm 5 103) s m args below meth c H locs 0 0 (MQ below (mQi D dT h ad K A) args s 0 0 A) (F0 m 12 ls []) := by
    intro n12_47
    induction n12_47 with
    | zero =>
      intro x46 S47 H locs ls hs
      exact False.elim hs
    | succ n12_47 ihm_raced_l12 =>
      intro x46 S47 H locs ls hs hM hl
      rw [m_raced_l12_s] at hs
      refine lv_iload_n hx hb dX6_raced_12 rfl (lv_at hl 1 rfl) ?_
      refine lv_aload_n hx hb dX6_raced_13 rfl (lv_at hl 0 rfl) ?_
      refine m_geti (v := .int (S47.1 0)) X hK hM 0 q1476 rfl rfl rfl dX6_raced_14 ?_
      refine lv_icmp_ge (tgt := 90) hx hb dX6_raced_17 (by decide) (fun c59 => ?_) (fun c59 => ?_)
      · replace hs := ifp c59 hs
        exact Ek90_1 _ _ _ _ hs hM (lv_sub hl [0] rfl)
      · replace hs := ifn c59 hs
        refine lv_aload_n hx hb dX6_raced_20 rfl (lv_at hl 0 rfl) ?_
        refine lv_iload_n hx hb dX6_raced_21 rfl (lv_at hl 1 rfl) ?_
        refine m_callv (rest := []) (av := fun ad => [.int x46]) X hK hA hM (met_puts l x46 _ _ hs) iX6_puts q1694 ⟨Nat.le_of_ble_eq_true rfl, Nat.le_of_ble_eq_true rfl⟩ rfl hl.1 rfl (Nat.le_of_ble_eq_true rfl) dX6_raced_22 (fun S49 H locs hs hM => ?_)
        refine lv_aload_n hx hb dX6_raced_25 rfl (lv_at hl 0 rfl) ?_
        refine m_callv (rest := []) (av := fun ad => []) X hK hA hM (met_starts l  _ _ hs) iX6_starts q1830 ⟨Nat.le_of_ble_eq_true rfl, Nat.le_of_ble_eq_true rfl⟩ rfl hl.1 rfl (Nat.le_of_ble_eq_true rfl) dX6_raced_26 (fun S50 H locs hs hM => ?_)
        refine lv_aload_n hx hb dX6_raced_29 rfl (lv_at hl 0 rfl) ?_
        refine m_geti (v := .ref (ad 52)) X hK hM 52 q1528 rfl rfl rfl dX6_raced_30 ?_
        refine lv_iload_n hx hb dX6_raced_33 rfl (lv_at hl 1 rfl) ?_
        refine lv_aload_n hx hb dX6_raced_34 rfl (lv_at hl 0 rfl) ?_
        refine m_geti (v := .int (S50.1 42)) X hK hM 42 q1518 rfl rfl rfl dX6_raced_35 ?_
        obtain ⟨S51, eS51, hs⟩ := hs
        refine m_iast X hK hM rfl eS51 dX6_raced_38 (fun H locs hM => ?_)
        refine lv_aload_n hx hb dX6_raced_39 rfl (lv_at hl 0 rfl) ?_
        refine m_geti (v := .ref (ad 53)) X hK hM 53 q1529 rfl rfl rfl dX6_raced_40 ?_
        refine lv_iload_n hx hb dX6_raced_43 rfl (lv_at hl 1 rfl) ?_
        refine lv_aload_n hx hb dX6_raced_44 rfl (lv_at hl 0 rfl) ?_
        refine m_geti (v := .int (S51.1 43)) X hK hM 43 q1519 rfl rfl rfl dX6_raced_45 ?_
        obtain ⟨S52, eS52, hs⟩ := hs
        refine m_iast X hK hM rfl eS52 dX6_raced_48 (fun H locs hM => ?_)
        refine lv_aload_n hx hb dX6_raced_49 rfl (lv_at hl 0 rfl) ?_
        refine m_geti (v := .ref (ad 54)) X hK hM 54 q1530 rfl rfl rfl dX6_raced_50 ?_
        refine lv_iload_n hx hb dX6_raced_53 rfl (lv_at hl 1 rfl) ?_
        refine lv_iconst (v := 0) hx hb dX6_raced_54 (by decide) ?_
        obtain ⟨S53, eS53, hs⟩ := hs
        refine m_iast X hK hM rfl eS53 dX6_raced_55 (fun H locs hM => ?_)
        refine lv_aload_n hx hb dX6_raced_56 rfl (lv_at hl 0 rfl) ?_
        refine m_geti (v := .ref (ad 55)) X hK hM 55 q1531 rfl rfl rfl dX6_raced_57 ?_
        refine lv_iload_n hx hb dX6_raced_60 rfl (lv_at hl 1 rfl) ?_
        refine lv_aload_n hx hb dX6_raced_61 rfl (lv_at hl 0 rfl) ?_
        refine m_geti (v := .int (S53.1 42)) X hK hM 42 q1518 rfl rfl rfl dX6_raced_62 ?_
        refine lv_aload_n hx hb dX6_raced_65 rfl (lv_at hl 0 rfl) ?_
        refine m_geti (v := .int (S53.1 2)) X hK hM 2 q1478 rfl rfl rfl dX6_raced_66 ?_
        obtain ⟨k83_55, hk83_55, hs⟩ := jn_ex hs
        have Ek83_55 : ∀ (v54 : Int32) (S55 : MS) (H : Heap) (locs : List Loc) (ls : Array Slot), k83_55 v54 S55 → mI D dT A s.heap h ad S55 H locs → lv_has ls 3 [(0, .ref h), (1, .int x46)] → W p l e (mRm 5 103) s m args below meth c H locs 0 0 (MQ below (mQi D dT h ad K A) args s 0 0 A) (F0 m 83 ls [.int v54, .int x46, .ref (ad 55)]) := by
          intro v54 S55 H locs ls hs hM hl
          rw [hk83_55] at hs
          obtain ⟨S56, eS56, hs⟩ := hs
          refine m_iast X hK hM rfl eS56 dX6_raced_83 (fun H locs hM => ?_)
          refine lv_iinc (v := (x46 + 1)) (lv' := [(1, .int (x46 + 1)), (0, .ref h)]) hx hb dX6_raced_84 hl (k := 1) rfl (congrArg (fun z => x46 + z) (show Int32.ofInt (1) = 1 by decide)) (by decide) rfl (fun ls hl => ?_)
          refine lv_goto (tgt := 12) hx hb dX6_raced_87 (by decide) ?_
          exact ihm_raced_l12 _ _ _ _ _ hs hM (lv_sub hl [1, 0] rfl)
        refine lv_icmp_ge (tgt := 78) hx hb dX6_raced_69 (by decide) (fun c58 => ?_) (fun c58 => ?_)
        · replace hs := ifp c58 hs
          refine lv_aload_n hx hb dX6_raced_78 rfl (lv_at hl 0 rfl) ?_
          refine lv_iconst (v := 0) hx hb dX6_raced_79 (by decide) ?_
          refine m_calli (rest := [.int x46, .ref (ad 55)]) (av := fun ad => [.int 0]) X hK hA hM (met_withRope l 0 _ _ hs) iX6_withRope q1866 ⟨Nat.le_of_ble_eq_true rfl, Nat.le_of_ble_eq_true rfl⟩ rfl hl.1 rfl (Nat.le_of_ble_eq_true rfl) dX6_raced_80 (fun r58 S57 H locs hs hM => ?_)
          exact Ek83_55 _ _ _ _ _ hs hM hl
        · replace hs := ifn c58 hs
          refine lv_sipush (v := 999) hx hb dX6_raced_72 (by decide) ?_
          refine lv_goto (tgt := 83) hx hb dX6_raced_75 (by decide) ?_
          exact Ek83_55 _ _ _ _ _ hs hM hl
  exact Lm_raced_l12 NF _ _ _ _ _ hs hM (lv_sub hl [1, 0] rfl)
