set_option maxRecDepth 100000
def m_given_l71 (x10 : Int32) (k107_13 : MS → Prop) : Nat → Int32 → MS → Prop
  | 0, _, _ => False
  | n71_16 + 1, x15, S16 => (if (S16.1 1) ≤ x15 then k107_13 S16 else m_inWith x10 x15 S16 (fun r19 S18 => obd (mast S18 47 ((8 * x10) + x15) r19) (fun S20 => m_given_l71 x10 k107_13 n71_16 (x15 + 1) S20)))
theorem m_given_l71_s (x10 : Int32) (k107_13 : MS → Prop) (n71_16 : Nat) (x15 : Int32) (S16 : MS) : m_given_l71 x10 k107_13 (n71_16 + 1) x15 S16 = ((if (S16.1 1) ≤ x15 then k107_13 S16 else m_inWith x10 x15 S16 (fun r19 S18 => obd (mast S18 47 ((8 * x10) + x15) r19) (fun S20 => m_given_l71 x10 k107_13 n71_16 (x15 + 1) S20)))) := rfl
def m_given_l62 (a2 : Int32) (k113_5 : MS → Prop) : Nat → Int32 → MS → Prop
  | 0, _, _ => False
  | n62_11 + 1, x10, S11 => (if a2 ≤ x10 then k113_5 S11 else jn (fun (S13 : MS) => m_given_l62 a2 k113_5 n62_11 (x10 + 1) S13) (fun k107_13 => m_given_l71 x10 k107_13 NF 0 S11))
theorem m_given_l62_s (a2 : Int32) (k113_5 : MS → Prop) (n62_11 : Nat) (x10 : Int32) (S11 : MS) : m_given_l62 a2 k113_5 (n62_11 + 1) x10 S11 = ((if a2 ≤ x10 then k113_5 S11 else jn (fun (S13 : MS) => m_given_l62 a2 k113_5 n62_11 (x10 + 1) S13) (fun k107_13 => m_given_l71 x10 k107_13 NF 0 S11))) := rfl
def m_given (a1 : Int32) (a2 : Int32) (a3 : Int32) (S : MS) (K : Int32 → MS → Prop) : Prop := jn (m_no (-6) S (fun r2 S1 => K r2 S1)) (fun k35_0 => (if a1 < 0 then k35_0 else (if 2 < a1 then k35_0 else (if a2 < 1 then k35_0 else (if 5 < a2 then k35_0 else (if (S.1 0) < a2 then k35_0 else (if a2 ≤ (S.1 1) then jn (m_no (-5) S (fun r4 S3 => K r4 S3)) (fun k52_2 => (if a3 < (-1) then k52_2 else (if a3 < a2 then jn (fun (S5 : MS) => m_gives 7 a1 0 a2 0 0 0 999 (mset S5 50 (-1)) (fun S7 => (if a3 = (-1) then K (S7.1 50) S7 else obd (mald S7 49 a3) (fun v8 => K v8 S7)))) (fun k113_5 => m_given_l62 a2 k113_5 NF 0 S) else k52_2))) else k35_0)))))))
theorem iX6_given : mInf yX6_given cX6_given 6 (some .int) 3 := ⟨q1903, q1904, q1905, by decide +kernel⟩
set_option maxHeartbeats 4000000 in
theorem met_given (l : Launch) (a1 : Int32) (a2 : Int32) (a3 : Int32) (S : MS) (K : Int32 → MS → Prop) (hs : m_given a1 a2 a3 S K) : mMeti l yX6_given cX6_given 6 8 449 S (fun ad => [.int a1, .int a2, .int a3]) K := by
  intro D dT h ad sz
  refine mEnter (Qc := mQi D dT h ad K) (by decide) rfl (by rfl) ?_
  intro p e s m args below meth c A ls X hK hA hM hl
  have hx := X.1
  have hb := X.2.1
  have hts := X.2.2.2.2.1
  have hown := X.2.2.2.2.2.1
  have hl : lv_has ls 6 [(0, .ref h), (1, .int a1), (2, .int a2), (3, .int a3)] := hl
  unfold m_given at hs
  refine lv_iload_n hx hb dX6_given_0 rfl (lv_at hl 1 rfl) ?_
  obtain ⟨k35_0, hk35_0, hs⟩ := jn_ex hs
  have Ek35_0 : ∀ (H : Heap) (locs : List Loc) (ls : Array Slot), k35_0 → mI D dT A s.heap h ad S H locs → lv_has ls 6 [(0, .ref h)] → W p l e (mRm 8 449) s m args below meth c H locs 0 0 (MQ below (mQi D dT h ad K A) args s 0 0 A) (F0 m 35 ls []) := by
    intro H locs ls hs hM hl
    rw [hk35_0] at hs
    refine lv_aload_n hx hb dX6_given_35 rfl (lv_at hl 0 rfl) ?_
    refine lv_bipush (v := (-6)) hx hb dX6_given_36 (by decide) ?_
    refine m_calli (rest := []) (av := fun ad => [.int (-6)]) X hK hA hM (met_no l (-6) _ _ hs) iX6_no q1662 ⟨Nat.le_of_ble_eq_true rfl, Nat.le_of_ble_eq_true rfl⟩ rfl hl.1 rfl (Nat.le_of_ble_eq_true rfl) dX6_given_38 (fun r2 S1 H locs hs hM => ?_)
    exact m_reti X hK hM hs dX6_given_41
  refine lv_if_lt (tgt := 35) hx hb dX6_given_1 (by decide) (fun c29 => ?_) (fun c29 => ?_)
  · replace hs := ifp c29 hs
    exact Ek35_0 _ _ _ hs hM (lv_sub hl [0] rfl)
  · replace hs := ifn c29 hs
    refine lv_iload_n hx hb dX6_given_4 rfl (lv_at hl 1 rfl) ?_
    refine lv_iconst (v := 2) hx hb dX6_given_5 (by decide) ?_
    refine lv_icmp_gt (tgt := 35) hx hb dX6_given_6 (by decide) (fun c28 => ?_) (fun c28 => ?_)
    · replace hs := ifp c28 hs
      exact Ek35_0 _ _ _ hs hM (lv_sub hl [0] rfl)
    · replace hs := ifn c28 hs
      refine lv_iload_n hx hb dX6_given_9 rfl (lv_at hl 2 rfl) ?_
      refine lv_iconst (v := 1) hx hb dX6_given_10 (by decide) ?_
      refine lv_icmp_lt (tgt := 35) hx hb dX6_given_11 (by decide) (fun c27 => ?_) (fun c27 => ?_)
      · replace hs := ifp c27 hs
        exact Ek35_0 _ _ _ hs hM (lv_sub hl [0] rfl)
      · replace hs := ifn c27 hs
        refine lv_iload_n hx hb dX6_given_14 rfl (lv_at hl 2 rfl) ?_
        refine lv_iconst (v := 5) hx hb dX6_given_15 (by decide) ?_
        refine lv_icmp_gt (tgt := 35) hx hb dX6_given_16 (by decide) (fun c26 => ?_) (fun c26 => ?_)
        · replace hs := ifp c26 hs
          exact Ek35_0 _ _ _ hs hM (lv_sub hl [0] rfl)
        · replace hs := ifn c26 hs
          refine lv_iload_n hx hb dX6_given_19 rfl (lv_at hl 2 rfl) ?_
          refine lv_aload_n hx hb dX6_given_20 rfl (lv_at hl 0 rfl) ?_
          refine m_geti (v := .int (S.1 0)) X hK hM 0 q1476 rfl rfl rfl dX6_given_21 ?_
          refine lv_icmp_gt (tgt := 35) hx hb dX6_given_24 (by decide) (fun c25 => ?_) (fun c25 => ?_)
          · replace hs := ifp c25 hs
            exact Ek35_0 _ _ _ hs hM (lv_sub hl [0] rfl)
          · replace hs := ifn c25 hs
            refine lv_iload_n hx hb dX6_given_27 rfl (lv_at hl 2 rfl) ?_
            refine lv_aload_n hx hb dX6_given_28 rfl (lv_at hl 0 rfl) ?_
            refine m_geti (v := .int (S.1 1)) X hK hM 1 q1477 rfl rfl rfl dX6_given_29 ?_
            refine lv_icmp_le (tgt := 42) hx hb dX6_given_32 (by decide) (fun c24 => ?_) (fun c24 => ?_)
            · replace hs := ifp c24 hs
              refine lv_iload_n hx hb dX6_given_42 rfl (lv_at hl 3 rfl) ?_
              refine lv_iconst (v := (-1)) hx hb dX6_given_43 (by decide) ?_
              obtain ⟨k52_2, hk52_2, hs⟩ := jn_ex hs
              have Ek52_2 : ∀ (H : Heap) (locs : List Loc) (ls : Array Slot), k52_2 → mI D dT A s.heap h ad S H locs → lv_has ls 6 [(0, .ref h)] → W p l e (mRm 8 449) s m args below meth c H locs 0 0 (MQ below (mQi D dT h ad K A) args s 0 0 A) (F0 m 52 ls []) := by
                intro H locs ls hs hM hl
                rw [hk52_2] at hs
                refine lv_aload_n hx hb dX6_given_52 rfl (lv_at hl 0 rfl) ?_
                refine lv_bipush (v := (-5)) hx hb dX6_given_53 (by decide) ?_
                refine m_calli (rest := []) (av := fun ad => [.int (-5)]) X hK hA hM (met_no l (-5) _ _ hs) iX6_no q1662 ⟨Nat.le_of_ble_eq_true rfl, Nat.le_of_ble_eq_true rfl⟩ rfl hl.1 rfl (Nat.le_of_ble_eq_true rfl) dX6_given_55 (fun r4 S3 H locs hs hM => ?_)
                exact m_reti X hK hM hs dX6_given_58
              refine lv_icmp_lt (tgt := 52) hx hb dX6_given_44 (by decide) (fun c23 => ?_) (fun c23 => ?_)
              · replace hs := ifp c23 hs
                exact Ek52_2 _ _ _ hs hM (lv_sub hl [0] rfl)
              · replace hs := ifn c23 hs
                refine lv_iload_n hx hb dX6_given_47 rfl (lv_at hl 3 rfl) ?_
                refine lv_iload_n hx hb dX6_given_48 rfl (lv_at hl 2 rfl) ?_
                refine lv_icmp_lt (tgt := 59) hx hb dX6_given_49 (by decide) (fun c22 => ?_) (fun c22 => ?_)
                · replace hs := ifp c22 hs
                  refine lv_iconst (v := 0) hx hb dX6_given_59 (by decide) ?_
                  refine lv_istore (lv' := [(4, .int 0), (0, .ref h), (1, .int a1), (2, .int a2), (3, .int a3)]) hx hb dX6_given_60 hl (by decide) rfl (fun ls hl => ?_)
                  obtain ⟨k113_5, hk113_5, hs⟩ := jn_ex hs
                  have Ek113_5 : ∀ (S5 : MS) (H : Heap) (locs : List Loc) (ls : Array Slot), k113_5 S5 → mI D dT A s.heap h ad S5 H locs → lv_has ls 6 [(0, .ref h), (1, .int a1), (2, .int a2), (3, .int a3)] → W p l e (mRm 8 449) s m args below meth c H locs 0 0 (MQ below (mQi D dT h ad K A) args s 0 0 A) (F0 m 113 ls []) := by
                    intro S5 H locs ls hs hM hl
                    rw [hk113_5] at hs
                    refine lv_aload_n hx hb dX6_given_113 rfl (lv_at hl 0 rfl) ?_
                    refine lv_iconst (v := (-1)) hx hb dX6_given_114 (by decide) ?_
                    refine m_puti X hK hM 50 q1526 rfl rfl rfl rfl rfl rfl dX6_given_115 (fun H locs hM => ?_)
                    refine lv_aload_n hx hb dX6_given_118 rfl (lv_at hl 0 rfl) ?_
                    refine lv_iload_n hx hb dX6_given_119 rfl (lv_at hl 1 rfl) ?_
                    refine lv_iconst (v := 0) hx hb dX6_given_120 (by decide) ?_
                    refine lv_iload_n hx hb dX6_given_121 rfl (lv_at hl 2 rfl) ?_
                    refine lv_iconst (v := 0) hx hb dX6_given_122 (by decide) ?_
                    refine lv_iconst (v := 0) hx hb dX6_given_123 (by decide) ?_
                    refine lv_iconst (v := 0) hx hb dX6_given_124 (by decide) ?_
                    refine lv_sipush (v := 999) hx hb dX6_given_125 (by decide) ?_
                    refine m_callv (rest := []) (av := fun ad => [.int a1, .int 0, .int a2, .int 0, .int 0, .int 0, .int 999]) X hK hA hM (met_gives l 7 a1 0 a2 0 0 0 999 _ _ hs) iX6_gives q1906 ⟨Nat.le_of_ble_eq_true rfl, Nat.le_of_ble_eq_true rfl⟩ rfl hl.1 rfl (Nat.le_of_ble_eq_true rfl) dX6_given_128 (fun S7 H locs hs hM => ?_)
                    refine lv_iload_n hx hb dX6_given_131 rfl (lv_at hl 3 rfl) ?_
                    refine lv_iconst (v := (-1)) hx hb dX6_given_132 (by decide) ?_
                    refine lv_icmp_ne (tgt := 143) hx hb dX6_given_133 (by decide) (fun c8 => ?_) (fun c8 => ?_)
                    · replace hs := ifn c8 hs
                      refine lv_aload_n hx hb dX6_given_143 rfl (lv_at hl 0 rfl) ?_
                      refine m_geti (v := .ref (ad 49)) X hK hM 49 q1525 rfl rfl rfl dX6_given_144 ?_
                      refine lv_iload_n hx hb dX6_given_147 rfl (lv_at hl 3 rfl) ?_
                      obtain ⟨v8, ev8, hs⟩ := hs
                      refine m_iald X hK hM rfl ev8 dX6_given_148 ?_
                      exact m_reti X hK hM hs dX6_given_149
                    · replace hs := ifp c8 hs
                      refine lv_aload_n hx hb dX6_given_136 rfl (lv_at hl 0 rfl) ?_
                      refine m_geti (v := .int (S7.1 50)) X hK hM 50 q1526 rfl rfl rfl dX6_given_137 ?_
                      refine lv_goto (tgt := 149) hx hb dX6_given_140 (by decide) ?_
                      exact m_reti X hK hM hs dX6_given_149
                  have Lm_given_l62 : ∀ (n62_11 : Nat) (x10 : Int32) (S11 : MS) (H : Heap) (locs : List Loc) (ls : Array Slot), m_given_l62 a2 k113_5 n62_11 x10 S11 → mI D dT A s.heap h ad S11 H locs → lv_has ls 6 [(0, .ref h), (1, .int a1), (2, .int a2), (3, .int a3), (4, .int x10)] → W p l e (mRm 8 449) s m args below meth c H locs 0 0 (MQ below (mQi D dT h ad K A) args s 0 0 A) (F0 m 62 ls []) := by
                    intro n62_11
                    induction n62_11 with
                    | zero =>
                      intro x10 S11 H locs ls hs
                      exact False.elim hs
                    | succ n62_11 ihm_given_l62 =>
                      intro x10 S11 H locs ls hs hM hl
                      rw [m_given_l62_s] at hs
                      refine lv_iload hx hb dX6_given_62 (lv_at hl 4 rfl) ?_
                      refine lv_iload_n hx hb dX6_given_64 rfl (lv_at hl 2 rfl) ?_
                      refine lv_icmp_ge (tgt := 113) hx hb dX6_given_65 (by decide) (fun c21 => ?_) (fun c21 => ?_)
                      · replace hs := ifp c21 hs
                        exact Ek113_5 _ _ _ _ hs hM (lv_sub hl [0, 1, 2, 3] rfl)
                      · replace hs := ifn c21 hs
                        refine lv_iconst (v := 0) hx hb dX6_given_68 (by decide) ?_
                        refine lv_istore (lv' := [(5, .int 0), (0, .ref h), (1, .int a1), (2, .int a2), (3, .int a3), (4, .int x10)]) hx hb dX6_given_69 hl (by decide) rfl (fun ls hl => ?_)
                        obtain ⟨k107_13, hk107_13, hs⟩ := jn_ex hs
                        have Ek107_13 : ∀ (S13 : MS) (H : Heap) (locs : List Loc) (ls : Array Slot), k107_13 S13 → mI D dT A s.heap h ad S13 H locs → lv_has ls 6 [(0, .ref h), (1, .int a1), (2, .int a2), (3, .int a3), (4, .int x10)] → W p l e (mRm 8 449) s m args below meth c H locs 0 0 (MQ below (mQi D dT h ad K A) args s 0 0 A) (F0 m 107 ls []) := by
                          intro S13 H locs ls hs hM hl
                          rw [hk107_13] at hs
                          refine lv_iinc (v := (x10 + 1)) (lv' := [(4, .int (x10 + 1)), (0, .ref h), (1, .int a1), (2, .int a2), (3, .int a3)]) hx hb dX6_given_107 hl (k := 4) rfl (congrArg (fun z => x10 + z) (show Int32.ofInt (1) = 1 by decide)) (by decide) rfl (fun ls hl => ?_)
                          refine lv_goto (tgt := 62) hx hb dX6_given_110 (by decide) ?_
                          exact ihm_given_l62 _ _ _ _ _ hs hM (lv_sub hl [1, 2, 3, 4, 0] rfl)
                        have Lm_given_l71 : ∀ (n71_16 : Nat) (x15 : Int32) (S16 : MS) (H : Heap) (locs : List Loc) (ls : Array Slot), m_given_l71 x10 k107_13 n71_16 x15 S16 → mI D dT A s.heap h ad S16 H locs → lv_has ls 6 [(0, .ref h), (1, .int a1), (2, .int a2), (3, .int a3), (4, .int x10), (5, .int x15)] → W p l e (mRm 8 449) s m args below meth c H locs 0 0 (MQ below (mQi D dT h ad K A) args s 0 0 A) (F0 m 71 ls []) := by
                          intro n71_16
                          induction n71_16 with
                          | zero =>
                            intro x15 S16 H locs ls hs
                            exact False.elim hs
                          | succ n71_16 ihm_given_l71 =>
                            intro x15 S16 H locs ls hs hM hl
                            rw [m_given_l71_s] at hs
                            refine lv_iload hx hb dX6_given_71 (lv_at hl 5 rfl) ?_
                            refine lv_aload_n hx hb dX6_given_73 rfl (lv_at hl 0 rfl) ?_
                            refine m_geti (v := .int (S16.1 1)) X hK hM 1 q1477 rfl rfl rfl dX6_given_74 ?_
                            refine lv_icmp_ge (tgt := 107) hx hb dX6_given_77 (by decide) (fun c20 => ?_) (fun c20 => ?_)
                            · replace hs := ifp c20 hs
                              exact Ek107_13 _ _ _ _ hs hM (lv_sub hl [0, 1, 2, 3, 4] rfl)
                            · replace hs := ifn c20 hs
                              refine lv_aload_n hx hb dX6_given_80 rfl (lv_at hl 0 rfl) ?_
                              refine m_geti (v := .ref (ad 47)) X hK hM 47 q1523 rfl rfl rfl dX6_given_81 ?_
                              refine lv_bipush (v := 8) hx hb dX6_given_84 (by decide) ?_
                              refine lv_iload hx hb dX6_given_86 (lv_at hl 4 rfl) ?_
                              refine lv_imul hx hb dX6_given_88 ?_
                              refine lv_iload hx hb dX6_given_89 (lv_at hl 5 rfl) ?_
                              refine lv_iadd hx hb dX6_given_91 ?_
                              refine lv_aload_n hx hb dX6_given_92 rfl (lv_at hl 0 rfl) ?_
                              refine lv_iload hx hb dX6_given_93 (lv_at hl 4 rfl) ?_
                              refine lv_iload hx hb dX6_given_95 (lv_at hl 5 rfl) ?_
                              refine m_calli (rest := [.int ((8 * x10) + x15), .ref (ad 47)]) (av := fun ad => [.int x10, .int x15]) X hK hA hM (met_inWith l x10 x15 _ _ hs) iX6_inWith q1894 ⟨Nat.le_of_ble_eq_true rfl, Nat.le_of_ble_eq_true rfl⟩ rfl hl.1 rfl (Nat.le_of_ble_eq_true rfl) dX6_given_97 (fun r19 S18 H locs hs hM => ?_)
                              obtain ⟨S20, eS20, hs⟩ := hs
                              refine m_iast X hK hM rfl eS20 dX6_given_100 (fun H locs hM => ?_)
                              refine lv_iinc (v := (x15 + 1)) (lv' := [(5, .int (x15 + 1)), (0, .ref h), (1, .int a1), (2, .int a2), (3, .int a3), (4, .int x10)]) hx hb dX6_given_101 hl (k := 5) rfl (congrArg (fun z => x15 + z) (show Int32.ofInt (1) = 1 by decide)) (by decide) rfl (fun ls hl => ?_)
                              refine lv_goto (tgt := 71) hx hb dX6_given_104 (by decide) ?_
                              exact ihm_given_l71 _ _ _ _ _ hs hM (lv_sub hl [1, 2, 3, 4, 5, 0] rfl)
                        exact Lm_given_l71 NF _ _ _ _ _ hs hM (lv_sub hl [1, 2, 3, 4, 5, 0] rfl)
                  exact Lm_given_l62 NF _ _ _ _ _ hs hM (lv_sub hl [1, 2, 3, 4, 0] rfl)
                · replace hs := ifn c22 hs
                  exact Ek52_2 _ _ _ hs hM (lv_sub hl [0] rfl)
            · replace hs := ifn c24 hs
              exact Ek35_0 _ _ _ hs hM (lv_sub hl [0] rfl)
def m_twoIn (a1 : Int32) (a2 : Int32) (a3 : Int32) (S : MS) (K : Int32 → MS → Prop) : Prop := m_puts a1 S (fun S1 => obd (mald S1 13 a2) (fun v2 => obd (mald S1 13 a1) (fun v3 => jn (fun (v4 : Int32) => m_putsIn a3 (mset S1 37 v4) (fun S5 => obd (mald S5 13 a1) (fun v6 => obd (mald S5 13 a2) (fun v7 => m_abs (v6 - v7) S5 (fun r9 S8 => m_in  (mset S8 38 ((S5.1 38) + r9)) (fun r11 S10 => K r11 S10)))))) (fun k36_4 => (if v3 ≤ v2 then obd (mald S1 13 a1) (fun v12 => k36_4 v12) else obd (mald S1 13 a2) (fun v13 => k36_4 v13))))))
theorem iX6_twoIn : mInf yX6_twoIn cX6_twoIn 4 (some .int) 3 := ⟨q1916, qs81, q1917, by decide +kernel⟩
set_option maxHeartbeats 4000000 in
theorem met_twoIn (l : Launch) (a1 : Int32) (a2 : Int32) (a3 : Int32) (S : MS) (K : Int32 → MS → Prop) (hs : m_twoIn a1 a2 a3 S K) : mMeti l yX6_twoIn cX6_twoIn 4 6 123 S (fun ad => [.int a1, .int a2, .int a3]) K := by
  intro D dT h ad sz
  refine mEnter (Qc := mQi D dT h ad K) (by decide) rfl (by rfl) ?_
  intro p e s m args below meth c A ls X hK hA hM hl
  have hx := X.1
  have hb := X.2.1
  have hts := X.2.2.2.2.1
  have hown := X.2.2.2.2.2.1
  have hl : lv_has ls 4 [(0, .ref h), (1, .int a1), (2, .int a2), (3, .int a3)] := hl
  unfold m_twoIn at hs
  refine lv_aload_n hx hb dX6_twoIn_0 rfl (lv_at hl 0 rfl) ?_
  refine lv_iload_n hx hb dX6_twoIn_1 rfl (lv_at hl 1 rfl) ?_
  refine m_callv (rest := []) (av := fun ad => [.int a1]) X hK hA hM (met_puts l a1 _ _ hs) iX6_puts q1694 ⟨Nat.le_of_ble_eq_true rfl, Nat.le_of_ble_eq_true rfl⟩ rfl hl.1 rfl (Nat.le_of_ble_eq_true rfl) dX6_twoIn_2 (fun S1 H locs hs hM => ?_)
  refine lv_aload_n hx hb dX6_twoIn_5 rfl (lv_at hl 0 rfl) ?_
  refine lv_aload_n hx hb dX6_twoIn_6 rfl (lv_at hl 0 rfl) ?_
  refine m_geti (v := .ref (ad 13)) X hK hM 13 q1489 rfl rfl rfl dX6_twoIn_7 ?_
  refine lv_iload_n hx hb dX6_twoIn_10 rfl (lv_at hl 2 rfl) ?_
  obtain ⟨v2, ev2, hs⟩ := hs
  refine m_iald X hK hM rfl ev2 dX6_twoIn_11 ?_
  refine lv_aload_n hx hb dX6_twoIn_12 rfl (lv_at hl 0 rfl) ?_
  refine m_geti (v := .ref (ad 13)) X hK hM 13 q1489 rfl rfl rfl dX6_twoIn_13 ?_
  refine lv_iload_n hx hb dX6_twoIn_16 rfl (lv_at hl 1 rfl) ?_
  obtain ⟨v3, ev3, hs⟩ := hs
  refine m_iald X hK hM rfl ev3 dX6_twoIn_17 ?_
  obtain ⟨k36_4, hk36_4, hs⟩ := jn_ex hs
  have Ek36_4 : ∀ (v4 : Int32) (H : Heap) (locs : List Loc) (ls : Array Slot), k36_4 v4 → mI D dT A s.heap h ad S1 H locs → lv_has ls 4 [(0, .ref h), (1, .int a1), (2, .int a2), (3, .int a3)] → W p l e (mRm 6 123) s m args below meth c H locs 0 0 (MQ below (mQi D dT h ad K A) args s 0 0 A) (F0 m 36 ls [.int v4, .ref h]) := by
    intro v4 H locs ls hs hM hl
    rw [hk36_4] at hs
    refine m_puti X hK hM 37 q1513 rfl rfl rfl rfl rfl rfl dX6_twoIn_36 (fun H locs hM => ?_)
    refine lv_aload_n hx hb dX6_twoIn_39 rfl (lv_at hl 0 rfl) ?_
    refine lv_iload_n hx hb dX6_twoIn_40 rfl (lv_at hl 3 rfl) ?_
    refine m_callv (rest := []) (av := fun ad => [.int a3]) X hK hA hM (met_putsIn l a3 _ _ hs) iX6_putsIn q1698 ⟨Nat.le_of_ble_eq_true rfl, Nat.le_of_ble_eq_true rfl⟩ rfl hl.1 rfl (Nat.le_of_ble_eq_true rfl) dX6_twoIn_41 (fun S5 H locs hs hM => ?_)
    refine lv_aload_n hx hb dX6_twoIn_44 rfl (lv_at hl 0 rfl) ?_
    refine lv_dup hx hb dX6_twoIn_45 rfl ?_
    refine m_geti (v := .int (S5.1 38)) X hK hM 38 q1514 rfl rfl rfl dX6_twoIn_46 ?_
    refine lv_aload_n hx hb dX6_twoIn_49 rfl (lv_at hl 0 rfl) ?_
    refine lv_aload_n hx hb dX6_twoIn_50 rfl (lv_at hl 0 rfl) ?_
    refine m_geti (v := .ref (ad 13)) X hK hM 13 q1489 rfl rfl rfl dX6_twoIn_51 ?_
    refine lv_iload_n hx hb dX6_twoIn_54 rfl (lv_at hl 1 rfl) ?_
    obtain ⟨v6, ev6, hs⟩ := hs
    refine m_iald X hK hM rfl ev6 dX6_twoIn_55 ?_
    refine lv_aload_n hx hb dX6_twoIn_56 rfl (lv_at hl 0 rfl) ?_
    refine m_geti (v := .ref (ad 13)) X hK hM 13 q1489 rfl rfl rfl dX6_twoIn_57 ?_
    refine lv_iload_n hx hb dX6_twoIn_60 rfl (lv_at hl 2 rfl) ?_
    obtain ⟨v7, ev7, hs⟩ := hs
    refine m_iald X hK hM rfl ev7 dX6_twoIn_61 ?_
    refine lv_isub hx hb dX6_twoIn_62 ?_
    refine m_calli (rest := [.int (S5.1 38), .ref h]) (av := fun ad => [.int (v6 - v7)]) X hK hA hM (met_abs l (v6 - v7) _ _ hs) iX6_abs q1702 ⟨Nat.le_of_ble_eq_true rfl, Nat.le_of_ble_eq_true rfl⟩ rfl hl.1 rfl (Nat.le_of_ble_eq_true rfl) dX6_twoIn_63 (fun r9 S8 H locs hs hM => ?_)
    refine lv_iadd hx hb dX6_twoIn_66 ?_
    refine m_puti X hK hM 38 q1514 rfl rfl rfl rfl rfl rfl dX6_twoIn_67 (fun H locs hM => ?_)
    refine lv_aload_n hx hb dX6_twoIn_70 rfl (lv_at hl 0 rfl) ?_
    refine m_calli (rest := []) (av := fun ad => []) X hK hA hM (met_in l  _ _ hs) iX6_in q1862 ⟨Nat.le_of_ble_eq_true rfl, Nat.le_of_ble_eq_true rfl⟩ rfl hl.1 rfl (Nat.le_of_ble_eq_true rfl) dX6_twoIn_71 (fun r11 S10 H locs hs hM => ?_)
    exact m_reti X hK hM hs dX6_twoIn_74
  refine lv_icmp_ge (tgt := 30) hx hb dX6_twoIn_18 (by decide) (fun c13 => ?_) (fun c13 => ?_)
  · replace hs := ifp c13 hs
    refine lv_aload_n hx hb dX6_twoIn_30 rfl (lv_at hl 0 rfl) ?_
    refine m_geti (v := .ref (ad 13)) X hK hM 13 q1489 rfl rfl rfl dX6_twoIn_31 ?_
    refine lv_iload_n hx hb dX6_twoIn_34 rfl (lv_at hl 1 rfl) ?_
    obtain ⟨v12, ev12, hs⟩ := hs
    refine m_iald X hK hM rfl ev12 dX6_twoIn_35 ?_
    exact Ek36_4 _ _ _ _ hs hM hl
  · replace hs := ifn c13 hs
    refine lv_aload_n hx hb dX6_twoIn_21 rfl (lv_at hl 0 rfl) ?_
    refine m_geti (v := .ref (ad 13)) X hK hM 13 q1489 rfl rfl rfl dX6_twoIn_22 ?_
    refine lv_iload_n hx hb dX6_twoIn_25 rfl (lv_at hl 2 rfl) ?_
    obtain ⟨v13, ev13, hs⟩ := hs
    refine m_iald X hK hM rfl ev13 dX6_twoIn_26 ?_
    refine lv_goto (tgt := 36) hx hb dX6_twoIn_27 (by decide) ?_
    exact Ek36_4 _ _ _ _ hs hM hl
def m_two (a1 : Int32) (a2 : Int32) (a3 : Int32) (S : MS) (K : Int32 → MS → Prop) : Prop := m_isChild a1 S (fun r2 S1 => jn (fun (S3 : MS) => m_no (-1) S3 (fun r5 S4 => K r5 S4)) (fun k24_3 => (if r2 = 0 then k24_3 S1 else m_isChild a2 S1 (fun r7 S6 => (if r7 = 0 then k24_3 S6 else m_isSack a3 S6 (fun r9 S8 => (if r9 = 0 then k24_3 S8 else (if a1 = a2 then m_no (-6) S8 (fun r13 S12 => K r13 S12) else m_twoIn a1 a2 a3 S8 (fun r11 S10 => K r11 S10)))))))))
theorem iX6_two : mInf yX6_two cX6_two 4 (some .int) 3 := ⟨q1911, q1912, q1913, by decide +kernel⟩
set_option maxHeartbeats 4000000 in
theorem met_two (l : Launch) (a1 : Int32) (a2 : Int32) (a3 : Int32) (S : MS) (K : Int32 → MS → Prop) (hs : m_two a1 a2 a3 S K) : mMeti l yX6_two cX6_two 4 7 146 S (fun ad => [.int a1, .int a2, .int a3]) K := by
  intro D dT h ad sz
  refine mEnter (Qc := mQi D dT h ad K) (by decide) rfl (by rfl) ?_
  intro p e s m args below meth c A ls X hK hA hM hl
  have hx := X.1
  have hb := X.2.1
  have hts := X.2.2.2.2.1
  have hown := X.2.2.2.2.2.1
  have hl : lv_has ls 4 [(0, .ref h), (1, .int a1), (2, .int a2), (3, .int a3)] := hl
  unfold m_two at hs
  refine lv_aload_n hx hb dX6_two_0 rfl (lv_at hl 0 rfl) ?_
  refine lv_iload_n hx hb dX6_two_1 rfl (lv_at hl 1 rfl) ?_
  refine m_callz (rest := []) (av := fun ad => [.int a1]) X hK hA hM (met_isChild l a1 _ _ hs) iX6_isChild q1682 ⟨Nat.le_of_ble_eq_true rfl, Nat.le_of_ble_eq_true rfl⟩ rfl hl.1 rfl (Nat.le_of_ble_eq_true rfl) dX6_two_2 (fun r2 S1 H locs br2 hs hM => ?_)
  obtain ⟨k24_3, hk24_3, hs⟩ := jn_ex hs
  have Ek24_3 : ∀ (S3 : MS) (H : Heap) (locs : List Loc) (ls : Array Slot), k24_3 S3 → mI D dT A s.heap h ad S3 H locs → lv_has ls 4 [(0, .ref h)] → W p l e (mRm 7 146) s m args below meth c H locs 0 0 (MQ below (mQi D dT h ad K A) args s 0 0 A) (F0 m 24 ls []) := by
    intro S3 H locs ls hs hM hl
    rw [hk24_3] at hs
    refine lv_aload_n hx hb dX6_two_24 rfl (lv_at hl 0 rfl) ?_
    refine lv_iconst (v := (-1)) hx hb dX6_two_25 (by decide) ?_
    refine m_calli (rest := []) (av := fun ad => [.int (-1)]) X hK hA hM (met_no l (-1) _ _ hs) iX6_no q1662 ⟨Nat.le_of_ble_eq_true rfl, Nat.le_of_ble_eq_true rfl⟩ rfl hl.1 rfl (Nat.le_of_ble_eq_true rfl) dX6_two_26 (fun r5 S4 H locs hs hM => ?_)
    exact m_reti X hK hM hs dX6_two_29
  refine lv_if_eq (tgt := 24) hx hb dX6_two_5 (by decide) (fun c16 => ?_) (fun c16 => ?_)
  · replace hs := ifp c16 hs
    exact Ek24_3 _ _ _ _ hs hM (lv_sub hl [0] rfl)
  · replace hs := ifn c16 hs
    refine lv_aload_n hx hb dX6_two_8 rfl (lv_at hl 0 rfl) ?_
    refine lv_iload_n hx hb dX6_two_9 rfl (lv_at hl 2 rfl) ?_
    refine m_callz (rest := []) (av := fun ad => [.int a2]) X hK hA hM (met_isChild l a2 _ _ hs) iX6_isChild q1682 ⟨Nat.le_of_ble_eq_true rfl, Nat.le_of_ble_eq_true rfl⟩ rfl hl.1 rfl (Nat.le_of_ble_eq_true rfl) dX6_two_10 (fun r7 S6 H locs br7 hs hM => ?_)
    refine lv_if_eq (tgt := 24) hx hb dX6_two_13 (by decide) (fun c15 => ?_) (fun c15 => ?_)
    · replace hs := ifp c15 hs
      exact Ek24_3 _ _ _ _ hs hM (lv_sub hl [0] rfl)
    · replace hs := ifn c15 hs
      refine lv_aload_n hx hb dX6_two_16 rfl (lv_at hl 0 rfl) ?_
      refine lv_iload_n hx hb dX6_two_17 rfl (lv_at hl 3 rfl) ?_
      refine m_callz (rest := []) (av := fun ad => [.int a3]) X hK hA hM (met_isSack l a3 _ _ hs) iX6_isSack q1746 ⟨Nat.le_of_ble_eq_true rfl, Nat.le_of_ble_eq_true rfl⟩ rfl hl.1 rfl (Nat.le_of_ble_eq_true rfl) dX6_two_18 (fun r9 S8 H locs br9 hs hM => ?_)
      refine lv_if_ne (tgt := 30) hx hb dX6_two_21 (by decide) (fun c14 => ?_) (fun c14 => ?_)
      · replace hs := ifn c14 hs
        refine lv_iload_n hx hb dX6_two_30 rfl (lv_at hl 1 rfl) ?_
        refine lv_iload_n hx hb dX6_two_31 rfl (lv_at hl 2 rfl) ?_
        refine lv_icmp_ne (tgt := 44) hx hb dX6_two_32 (by decide) (fun c13 => ?_) (fun c13 => ?_)
        · replace hs := ifn c13 hs
          refine lv_aload_n hx hb dX6_two_44 rfl (lv_at hl 0 rfl) ?_
          refine lv_iload_n hx hb dX6_two_45 rfl (lv_at hl 1 rfl) ?_
          refine lv_iload_n hx hb dX6_two_46 rfl (lv_at hl 2 rfl) ?_
          refine lv_iload_n hx hb dX6_two_47 rfl (lv_at hl 3 rfl) ?_
          refine m_calli (rest := []) (av := fun ad => [.int a1, .int a2, .int a3]) X hK hA hM (met_twoIn l a1 a2 a3 _ _ hs) iX6_twoIn q1914 ⟨Nat.le_of_ble_eq_true rfl, Nat.le_of_ble_eq_true rfl⟩ rfl hl.1 rfl (Nat.le_of_ble_eq_true rfl) dX6_two_48 (fun r11 S10 H locs hs hM => ?_)
          exact m_reti X hK hM hs dX6_two_51
        · replace hs := ifp c13 hs
          refine lv_aload_n hx hb dX6_two_35 rfl (lv_at hl 0 rfl) ?_
          refine lv_bipush (v := (-6)) hx hb dX6_two_36 (by decide) ?_
          refine m_calli (rest := []) (av := fun ad => [.int (-6)]) X hK hA hM (met_no l (-6) _ _ hs) iX6_no q1662 ⟨Nat.le_of_ble_eq_true rfl, Nat.le_of_ble_eq_true rfl⟩ rfl hl.1 rfl (Nat.le_of_ble_eq_true rfl) dX6_two_38 (fun r13 S12 H locs hs hM => ?_)
          refine lv_goto (tgt := 51) hx hb dX6_two_41 (by decide) ?_
          exact m_reti X hK hM hs dX6_two_51
      · replace hs := ifp c14 hs
        exact Ek24_3 _ _ _ _ hs hM (lv_sub hl [0] rfl)
def m_pair_l41 (x5 : Int32) (k96_10 : Int32 → Int32 → MS → Prop) : Nat → Int32 → Int32 → Int32 → MS → Prop
  | 0, _, _, _, _ => False
  | n41_15 + 1, x12, x13, x14, S15 => (if (S15.1 0) ≤ x14 then k96_10 x12 x13 S15 else obd (mald S15 14 x5) (fun v17 => m_twoIn x5 x14 v17 S15 (fun r19 S18 => jn (m_pair_l41 x5 k96_10 n41_15 ((100 * x5) + x14) r19 (x14 + 1) S18) (fun k79_19 => jn (fun (x20 : Int32) (x21 : Int32) => m_pair_l41 x5 k96_10 n41_15 x20 x21 (x14 + 1) S18) (fun k90_21 => (if x12 = (-1) then k79_19 else (if r19 < x13 then k79_19 else k90_21 x12 x13)))))))
theorem m_pair_l41_s (x5 : Int32) (k96_10 : Int32 → Int32 → MS → Prop) (n41_15 : Nat) (x12 : Int32) (x13 : Int32) (x14 : Int32) (S15 : MS) : m_pair_l41 x5 k96_10 (n41_15 + 1) x12 x13 x14 S15 = ((if (S15.1 0) ≤ x14 then k96_10 x12 x13 S15 else obd (mald S15 14 x5) (fun v17 => m_twoIn x5 x14 v17 S15 (fun r19 S18 => jn (m_pair_l41 x5 k96_10 n41_15 ((100 * x5) + x14) r19 (x14 + 1) S18) (fun k79_19 => jn (fun (x20 : Int32) (x21 : Int32) => m_pair_l41 x5 k96_10 n41_15 x20 x21 (x14 + 1) S18) (fun k90_21 => (if x12 = (-1) then k79_19 else (if r19 < x13 then k79_19 else k90_21 x12 x13)))))))) := rfl
def m_pair_l28 (K : Int32 → MS → Prop) : Nat → Int32 → Int32 → Int32 → MS → Prop
  | 0, _, _, _, _ => False
  | n28_6 + 1, x3, x4, x5, S6 => (if (S6.1 0) ≤ x5 then K x3 S6 else jn (fun (x8 : Int32) (x9 : Int32) (S10 : MS) => m_pair_l28 K n28_6 x8 x9 (x5 + 1) S10) (fun k96_10 => m_pair_l41 x5 k96_10 NF x3 x4 (x5 + 1) S6))
theorem m_pair_l28_s (K : Int32 → MS → Prop) (n28_6 : Nat) (x3 : Int32) (x4 : Int32) (x5 : Int32) (S6 : MS) : m_pair_l28 K (n28_6 + 1) x3 x4 x5 S6 = ((if (S6.1 0) ≤ x5 then K x3 S6 else jn (fun (x8 : Int32) (x9 : Int32) (S10 : MS) => m_pair_l28 K n28_6 x8 x9 (x5 + 1) S10) (fun k96_10 => m_pair_l41 x5 k96_10 NF x3 x4 (x5 + 1) S6))) := rfl
def m_pair (S : MS) (K : Int32 → MS → Prop) : Prop := jn (m_no (-5) S (fun r2 S1 => K r2 S1)) (fun k15_0 => (if (S.1 0) < 2 then k15_0 else (if (S.1 1) = 0 then k15_0 else m_pair_l28 K NF (-1) 0 0 S)))
theorem iX6_pair : mInf yX6_pair cX6_pair 6 (some .int) 0 := ⟨q1919, q1920, q1921, by decide +kernel⟩
set_option maxHeartbeats 4000000 in
theorem met_pair (l : Launch)  (S : MS) (K : Int32 → MS → Prop) (hs : m_pair  S K) : mMeti l yX6_pair cX6_pair 6 7 146 S (fun ad => []) K := by
  intro D dT h ad sz
  refine mEnter (Qc := mQi D dT h ad K) (by decide) rfl (by rfl) ?_
  intro p e s m args below meth c A ls X hK hA hM hl
  have hx := X.1
  have hb := X.2.1
  have hts := X.2.2.2.2.1
  have hown := X.2.2.2.2.2.1
  have hl : lv_has ls 6 [(0, .ref h)] := hl
  unfold m_pair at hs
  refine lv_aload_n hx hb dX6_pair_0 rfl (lv_at hl 0 rfl) ?_
  refine m_geti (v := .int (S.1 0)) X hK hM 0 q1476 rfl rfl rfl dX6_pair_1 ?_
  refine lv_iconst (v := 2) hx hb dX6_pair_4 (by decide) ?_
  obtain ⟨k15_0, hk15_0, hs⟩ := jn_ex hs
  have Ek15_0 : ∀ (H : Heap) (locs : List Loc) (ls : Array Slot), k15_0 → mI D dT A s.heap h ad S H locs → lv_has ls 6 [(0, .ref h)] → W p l e (mRm 7 146) s m args below meth c H locs 0 0 (MQ below (mQi D dT h ad K A) args s 0 0 A) (F0 m 15 ls []) := by
    intro H locs ls hs hM hl
    rw [hk15_0] at hs
    refine lv_aload_n hx hb dX6_pair_15 rfl (lv_at hl 0 rfl) ?_
    refine lv_bipush (v := (-5)) hx hb dX6_pair_16 (by decide) ?_
    refine m_calli (rest := []) (av := fun ad => [.int (-5)]) X hK hA hM (met_no l (-5) _ _ hs) iX6_no q1662 ⟨Nat.le_of_ble_eq_true rfl, Nat.le_of_ble_eq_true rfl⟩ rfl hl.1 rfl (Nat.le_of_ble_eq_true rfl) dX6_pair_18 (fun r2 S1 H locs hs hM => ?_)
    exact m_reti X hK hM hs dX6_pair_21
  refine lv_icmp_lt (tgt := 15) hx hb dX6_pair_5 (by decide) (fun c26 => ?_) (fun c26 => ?_)
  · replace hs := ifp c26 hs
    exact Ek15_0 _ _ _ hs hM hl
  · replace hs := ifn c26 hs
    refine lv_aload_n hx hb dX6_pair_8 rfl (lv_at hl 0 rfl) ?_
    refine m_geti (v := .int (S.1 1)) X hK hM 1 q1477 rfl rfl rfl dX6_pair_9 ?_
    refine lv_if_ne (tgt := 22) hx hb dX6_pair_12 (by decide) (fun c25 => ?_) (fun c25 => ?_)
    · replace hs := ifn c25 hs
      refine lv_iconst (v := (-1)) hx hb dX6_pair_22 (by decide) ?_
      refine lv_istore_n (lv' := [(1, .int (-1)), (0, .ref h)]) hx hb dX6_pair_23 rfl hl (by decide) rfl (fun ls hl => ?_)
      refine lv_iconst (v := 0) hx hb dX6_pair_24 (by decide) ?_
      refine lv_istore_n (lv' := [(2, .int 0), (1, .int (-1)), (0, .ref h)]) hx hb dX6_pair_25 rfl hl (by decide) rfl (fun ls hl => ?_)
      refine lv_iconst (v := 0) hx hb dX6_pair_26 (by decide) ?_
      refine lv_istore_n (lv' := [(3, .int 0), (2, .int 0), (1, .int (-1)), (0, .ref h)]) hx hb dX6_pair_27 rfl hl (by decide) rfl (fun ls hl => ?_)
      have Lm_pair_l28 : ∀ (n28_6 : Nat) (x3 : Int32) (x4 : Int32) (x5 : Int32) (S6 : MS) (H : Heap) (locs : List Loc) (ls : Array Slot), m_pair_l28 K n28_6 x3 x4 x5 S6 → mI D dT A s.heap h ad S6 H locs → lv_has ls 6 [(0, .ref h), (1, .int x3), (2, .int x4), (3, .int x5)] → W p l e (mRm 7 146) s m args below meth c H locs 0 0 (MQ below (mQi D dT h ad K A) args s 0 0 A) (F0 m 28 ls []) := by
        intro n28_6
        induction n28_6 with
        | zero =>
          intro x3 x4 x5 S6 H locs ls hs
          exact False.elim hs
        | succ n28_6 ihm_pair_l28 =>
          intro x3 x4 x5 S6 H locs ls hs hM hl
          rw [m_pair_l28_s] at hs
          refine lv_iload_n hx hb dX6_pair_28 rfl (lv_at hl 3 rfl) ?_
          refine lv_aload_n hx hb dX6_pair_29 rfl (lv_at hl 0 rfl) ?_
          refine m_geti (v := .int (S6.1 0)) X hK hM 0 q1476 rfl rfl rfl dX6_pair_30 ?_
          refine lv_icmp_ge (tgt := 102) hx hb dX6_pair_33 (by decide) (fun c24 => ?_) (fun c24 => ?_)
          · replace hs := ifp c24 hs
            refine lv_iload_n hx hb dX6_pair_102 rfl (lv_at hl 1 rfl) ?_
            exact m_reti X hK hM hs dX6_pair_103
          · replace hs := ifn c24 hs
            refine lv_iload_n hx hb dX6_pair_36 rfl (lv_at hl 3 rfl) ?_
            refine lv_iconst (v := 1) hx hb dX6_pair_37 (by decide) ?_
            refine lv_iadd hx hb dX6_pair_38 ?_
            refine lv_istore (lv' := [(4, .int (x5 + 1)), (0, .ref h), (1, .int x3), (2, .int x4), (3, .int x5)]) hx hb dX6_pair_39 hl (by decide) rfl (fun ls hl => ?_)
            obtain ⟨k96_10, hk96_10, hs⟩ := jn_ex hs
            have Ek96_10 : ∀ (x8 : Int32) (x9 : Int32) (S10 : MS) (H : Heap) (locs : List Loc) (ls : Array Slot), k96_10 x8 x9 S10 → mI D dT A s.heap h ad S10 H locs → lv_has ls 6 [(0, .ref h), (1, .int x8), (2, .int x9), (3, .int x5)] → W p l e (mRm 7 146) s m args below meth c H locs 0 0 (MQ below (mQi D dT h ad K A) args s 0 0 A) (F0 m 96 ls []) := by
              intro x8 x9 S10 H locs ls hs hM hl
              rw [hk96_10] at hs
              refine lv_iinc (v := (x5 + 1)) (lv' := [(3, .int (x5 + 1)), (0, .ref h), (1, .int x8), (2, .int x9)]) hx hb dX6_pair_96 hl (k := 3) rfl (congrArg (fun z => x5 + z) (show Int32.ofInt (1) = 1 by decide)) (by decide) rfl (fun ls hl => ?_)
              refine lv_goto (tgt := 28) hx hb dX6_pair_99 (by decide) ?_
              exact ihm_pair_l28 _ _ _ _ _ _ _ hs hM (lv_sub hl [1, 2, 3, 0] rfl)
            have Lm_pair_l41 : ∀ (n41_15 : Nat) (x12 : Int32) (x13 : Int32) (x14 : Int32) (S15 : MS) (H : Heap) (locs : List Loc) (ls : Array Slot), m_pair_l41 x5 k96_10 n41_15 x12 x13 x14 S15 → mI D dT A s.heap h ad S15 H locs → lv_has ls 6 [(0, .ref h), (1, .int x12), (2, .int x13), (3, .int x5), (4, .int x14)] → W p l e (mRm 7 146) s m args below meth c H locs 0 0 (MQ below (mQi D dT h ad K A) args s 0 0 A) (F0 m 41 ls []) := by
              intro n41_15
              induction n41_15 with
              | zero =>
                intro x12 x13 x14 S15 H locs ls hs
                exact False.elim hs
              | succ n41_15 ihm_pair_l41 =>
                intro x12 x13 x14 S15 H locs ls hs hM hl
                rw [m_pair_l41_s] at hs
                refine lv_iload hx hb dX6_pair_41 (lv_at hl 4 rfl) ?_
                refine lv_aload_n hx hb dX6_pair_43 rfl (lv_at hl 0 rfl) ?_
                refine m_geti (v := .int (S15.1 0)) X hK hM 0 q1476 rfl rfl rfl dX6_pair_44 ?_
                refine lv_icmp_ge (tgt := 96) hx hb dX6_pair_47 (by decide) (fun c23 => ?_) (fun c23 => ?_)
                · replace hs := ifp c23 hs
                  exact Ek96_10 _ _ _ _ _ _ hs hM (lv_sub hl [0, 1, 2, 3] rfl)
                · replace hs := ifn c23 hs
                  refine lv_aload_n hx hb dX6_pair_50 rfl (lv_at hl 0 rfl) ?_
                  refine lv_iload_n hx hb dX6_pair_51 rfl (lv_at hl 3 rfl) ?_
                  refine lv_iload hx hb dX6_pair_52 (lv_at hl 4 rfl) ?_
                  refine lv_aload_n hx hb dX6_pair_54 rfl (lv_at hl 0 rfl) ?_
                  refine m_geti (v := .ref (ad 14)) X hK hM 14 q1490 rfl rfl rfl dX6_pair_55 ?_
                  refine lv_iload_n hx hb dX6_pair_58 rfl (lv_at hl 3 rfl) ?_
                  obtain ⟨v17, ev17, hs⟩ := hs
                  refine m_iald X hK hM rfl ev17 dX6_pair_59 ?_
                  refine m_calli (rest := []) (av := fun ad => [.int x5, .int x14, .int v17]) X hK hA hM (met_twoIn l x5 x14 v17 _ _ hs) iX6_twoIn q1914 ⟨Nat.le_of_ble_eq_true rfl, Nat.le_of_ble_eq_true rfl⟩ rfl hl.1 rfl (Nat.le_of_ble_eq_true rfl) dX6_pair_60 (fun r19 S18 H locs hs hM => ?_)
                  refine lv_istore (lv' := [(5, .int r19), (0, .ref h), (1, .int x12), (2, .int x13), (3, .int x5), (4, .int x14)]) hx hb dX6_pair_63 hl (by decide) rfl (fun ls hl => ?_)
                  refine lv_iload_n hx hb dX6_pair_65 rfl (lv_at hl 2 rfl) ?_
                  refine lv_iconst (v := (-1)) hx hb dX6_pair_66 (by decide) ?_
                  obtain ⟨k79_19, hk79_19, hs⟩ := jn_ex hs
                  have Ek79_19 : ∀ (H : Heap) (locs : List Loc) (ls : Array Slot), k79_19 → mI D dT A s.heap h ad S18 H locs → lv_has ls 6 [(0, .ref h), (3, .int x5), (4, .int x14), (5, .int r19)] → W p l e (mRm 7 146) s m args below meth c H locs 0 0 (MQ below (mQi D dT h ad K A) args s 0 0 A) (F0 m 79 ls []) := by
                    intro H locs ls hs hM hl
                    rw [hk79_19] at hs
                    refine lv_bipush (v := 100) hx hb dX6_pair_79 (by decide) ?_
                    refine lv_iload_n hx hb dX6_pair_81 rfl (lv_at hl 1 rfl) ?_
                    refine lv_imul hx hb dX6_pair_82 ?_
                    refine lv_iload hx hb dX6_pair_83 (lv_at hl 2 rfl) ?_
                    refine lv_iadd hx hb dX6_pair_85 ?_
                    refine lv_istore_n (lv' := [(1, .int ((100 * x5) + x14)), (0, .ref h), (3, .int x5), (4, .int x14), (5, .int r19)]) hx hb dX6_pair_86 rfl hl (by decide) rfl (fun ls hl => ?_)
                    refine lv_iload hx hb dX6_pair_87 (lv_at hl 4 rfl) ?_
                    refine lv_istore_n (lv' := [(2, .int r19), (1, .int ((100 * x5) + x14)), (0, .ref h), (3, .int x5), (4, .int x14), (5, .int r19)]) hx hb dX6_pair_89 rfl hl (by decide) rfl (fun ls hl => ?_)
                    refine lv_iinc (v := (x14 + 1)) (lv' := [(4, .int (x14 + 1)), (2, .int r19), (1, .int ((100 * x5) + x14)), (0, .ref h), (3, .int x5), (5, .int r19)]) hx hb dX6_pair_90 hl (k := 4) rfl (congrArg (fun z => x14 + z) (show Int32.ofInt (1) = 1 by decide)) (by decide) rfl (fun ls hl => ?_)
                    refine lv_goto (tgt := 41) hx hb dX6_pair_93 (by decide) ?_
                    exact ihm_pair_l41 _ _ _ _ _ _ _ hs hM (lv_sub hl [3, 2, 1, 4, 0] rfl)
                  obtain ⟨k90_21, hk90_21, hs⟩ := jn_ex hs
                  have Ek90_21 : ∀ (x20 : Int32) (x21 : Int32) (H : Heap) (locs : List Loc) (ls : Array Slot), k90_21 x20 x21 → mI D dT A s.heap h ad S18 H locs → lv_has ls 6 [(0, .ref h), (1, .int x20), (2, .int x21), (3, .int x5), (4, .int x14)] → W p l e (mRm 7 146) s m args below meth c H locs 0 0 (MQ below (mQi D dT h ad K A) args s 0 0 A) (F0 m 90 ls []) := by
                    intro x20 x21 H locs ls hs hM hl
                    rw [hk90_21] at hs
                    refine lv_iinc (v := (x14 + 1)) (lv' := [(4, .int (x14 + 1)), (0, .ref h), (1, .int x20), (2, .int x21), (3, .int x5)]) hx hb dX6_pair_90 hl (k := 4) rfl (congrArg (fun z => x14 + z) (show Int32.ofInt (1) = 1 by decide)) (by decide) rfl (fun ls hl => ?_)
                    refine lv_goto (tgt := 41) hx hb dX6_pair_93 (by decide) ?_
                    exact ihm_pair_l41 _ _ _ _ _ _ _ hs hM (lv_sub hl [1, 2, 3, 4, 0] rfl)
                  refine lv_icmp_eq (tgt := 79) hx hb dX6_pair_67 (by decide) (fun c22 => ?_) (fun c22 => ?_)
                  · replace hs := ifp c22 hs
                    exact Ek79_19 _ _ _ hs hM (lv_sub hl [1, 4, 5, 0] rfl)
                  · replace hs := ifn c22 hs
                    refine lv_iload hx hb dX6_pair_70 (lv_at hl 0 rfl) ?_
                    refine lv_iload_n hx hb dX6_pair_72 rfl (lv_at hl 3 rfl) ?_
                    refine lv_icmp_lt (tgt := 79) hx hb dX6_pair_73 (by decide) (fun c21 => ?_) (fun c21 => ?_)
                    · replace hs := ifp c21 hs
                      exact Ek79_19 _ _ _ hs hM (lv_sub hl [1, 4, 5, 0] rfl)
                    · replace hs := ifn c21 hs
                      refine lv_goto (tgt := 90) hx hb dX6_pair_76 (by decide) ?_
                      exact Ek90_21 _ _ _ _ _ hs hM (lv_sub hl [1, 2, 3, 4, 5] rfl)
            exact Lm_pair_l41 NF _ _ _ _ _ _ _ hs hM (lv_sub hl [1, 2, 3, 4, 0] rfl)
      exact Lm_pair_l28 NF _ _ _ _ _ _ _ hs hM (lv_sub hl [3, 2, 1, 0] rfl)
    · replace hs := ifp c25 hs
      exact Ek15_0 _ _ _ hs hM hl
def m_noTen (a1 : Int32) (S : MS) (K : Int32 → MS → Prop) : Prop := obd (mald S 10 (-a1)) (fun v1 => obd (mast S 10 (-a1) (v1 + 1)) (fun S2 => K (a1 - 10) S2))
theorem iX6_noTen : mInf yX6_noTen cX6_noTen 2 (some .int) 1 := ⟨q1936, qs84, q1937, by decide +kernel⟩
set_option maxHeartbeats 4000000 in
theorem met_noTen (l : Launch) (a1 : Int32) (S : MS) (K : Int32 → MS → Prop) (hs : m_noTen a1 S K) : mMeti l yX6_noTen cX6_noTen 2 0 0 S (fun ad => [.int a1]) K := by
  intro D dT h ad sz
  refine mEnter (Qc := mQi D dT h ad K) (by decide) rfl (by rfl) ?_
  intro p e s m args below meth c A ls X hK hA hM hl
  have hx := X.1
  have hb := X.2.1
  have hts := X.2.2.2.2.1
  have hown := X.2.2.2.2.2.1
  have hl : lv_has ls 2 [(0, .ref h), (1, .int a1)] := hl
  unfold m_noTen at hs
  refine lv_aload_n hx hb dX6_noTen_0 rfl (lv_at hl 0 rfl) ?_
  refine m_geti (v := .ref (ad 10)) X hK hM 10 q1486 rfl rfl rfl dX6_noTen_1 ?_
  refine lv_iload_n hx hb dX6_noTen_4 rfl (lv_at hl 1 rfl) ?_
  refine lv_ineg hx hb dX6_noTen_5 ?_
  refine lv_dup2_11 hx hb dX6_noTen_6 rfl rfl ?_
  obtain ⟨v1, ev1, hs⟩ := hs
  refine m_iald X hK hM rfl ev1 dX6_noTen_7 ?_
  refine lv_iconst (v := 1) hx hb dX6_noTen_8 (by decide) ?_
  refine lv_iadd hx hb dX6_noTen_9 ?_
  obtain ⟨S2, eS2, hs⟩ := hs
  refine m_iast X hK hM rfl eS2 dX6_noTen_10 (fun H locs hM => ?_)
  refine lv_iload_n hx hb dX6_noTen_11 rfl (lv_at hl 1 rfl) ?_
  refine lv_bipush (v := 10) hx hb dX6_noTen_12 (by decide) ?_
  refine lv_isub hx hb dX6_noTen_14 ?_
  exact m_reti X hK hM hs dX6_noTen_15
def m_inFrom (a1 : Int32) (a2 : Int32) (S : MS) (K : Int32 → MS → Prop) : Prop := m_puts a1 S (fun S1 => m_in  (mset S1 40 a2) (fun r3 S2 => K r3 S2))
theorem iX6_inFrom : mInf yX6_inFrom cX6_inFrom 3 (some .int) 2 := ⟨q1932, qs83, q1933, by decide +kernel⟩
set_option maxHeartbeats 4000000 in
theorem met_inFrom (l : Launch) (a1 : Int32) (a2 : Int32) (S : MS) (K : Int32 → MS → Prop) (hs : m_inFrom a1 a2 S K) : mMeti l yX6_inFrom cX6_inFrom 3 6 123 S (fun ad => [.int a1, .int a2]) K := by
  intro D dT h ad sz
  refine mEnter (Qc := mQi D dT h ad K) (by decide) rfl (by rfl) ?_
  intro p e s m args below meth c A ls X hK hA hM hl
  have hx := X.1
  have hb := X.2.1
  have hts := X.2.2.2.2.1
  have hown := X.2.2.2.2.2.1
  have hl : lv_has ls 3 [(0, .ref h), (1, .int a1), (2, .int a2)] := hl
  unfold m_inFrom at hs
  refine lv_aload_n hx hb dX6_inFrom_0 rfl (lv_at hl 0 rfl) ?_
  refine lv_iload_n hx hb dX6_inFrom_1 rfl (lv_at hl 1 rfl) ?_
  refine m_callv (rest := []) (av := fun ad => [.int a1]) X hK hA hM (met_puts l a1 _ _ hs) iX6_puts q1694 ⟨Nat.le_of_ble_eq_true rfl, Nat.le_of_ble_eq_true rfl⟩ rfl hl.1 rfl (Nat.le_of_ble_eq_true rfl) dX6_inFrom_2 (fun S1 H locs hs hM => ?_)
  refine lv_aload_n hx hb dX6_inFrom_5 rfl (lv_at hl 0 rfl) ?_
  refine lv_iload_n hx hb dX6_inFrom_6 rfl (lv_at hl 2 rfl) ?_
  refine m_puti X hK hM 40 q1516 rfl rfl rfl rfl rfl rfl dX6_inFrom_7 (fun H locs hM => ?_)
  refine lv_aload_n hx hb dX6_inFrom_10 rfl (lv_at hl 0 rfl) ?_
  refine m_calli (rest := []) (av := fun ad => []) X hK hA hM (met_in l  _ _ hs) iX6_in q1862 ⟨Nat.le_of_ble_eq_true rfl, Nat.le_of_ble_eq_true rfl⟩ rfl hl.1 rfl (Nat.le_of_ble_eq_true rfl) dX6_inFrom_11 (fun r3 S2 H locs hs hM => ?_)
  exact m_reti X hK hM hs dX6_inFrom_14
def m_startOf_l2 (K : Int32 → MS → Prop) (a1 : Int32) (a2 : Int32) : Nat → Int32 → MS → Prop
  | 0, _, _ => False
  | n2_2 + 1, x1, S2 => (if 100 ≤ x1 then K (-1) S2 else m_inFrom a1 x1 S2 (fun r5 S4 => (if a2 < r5 then m_startOf_l2 K a1 a2 n2_2 (x1 + 1) S4 else K x1 S4)))
theorem m_startOf_l2_s (K : Int32 → MS → Prop) (a1 : Int32) (a2 : Int32) (n2_2 : Nat) (x1 : Int32) (S2 : MS) : m_startOf_l2 K a1 a2 (n2_2 + 1) x1 S2 = ((if 100 ≤ x1 then K (-1) S2 else m_inFrom a1 x1 S2 (fun r5 S4 => (if a2 < r5 then m_startOf_l2 K a1 a2 n2_2 (x1 + 1) S4 else K x1 S4)))) := rfl
def m_startOf (a1 : Int32) (a2 : Int32) (S : MS) (K : Int32 → MS → Prop) : Prop := m_startOf_l2 K a1 a2 NF 0 S
theorem iX6_startOf : mInf yX6_startOf cX6_startOf 4 (some .int) 2 := ⟨q1928, qs82, q1929, by decide +kernel⟩
set_option maxHeartbeats 4000000 in
theorem met_startOf (l : Launch) (a1 : Int32) (a2 : Int32) (S : MS) (K : Int32 → MS → Prop) (hs : m_startOf a1 a2 S K) : mMeti l yX6_startOf cX6_startOf 4 7 145 S (fun ad => [.int a1, .int a2]) K := by
  intro D dT h ad sz
  refine mEnter (Qc := mQi D dT h ad K) (by decide) rfl (by rfl) ?_
  intro p e s m args below meth c A ls X hK hA hM hl
  have hx := X.1
  have hb := X.2.1
  have hts := X.2.2.2.2.1
  have hown := X.2.2.2.2.2.1
  have hl : lv_has ls 4 [(0, .ref h), (1, .int a1), (2, .int a2)] := hl
  unfold m_startOf at hs
  refine lv_iconst (v := 0) hx hb dX6_startOf_0 (by decide) ?_
  refine lv_istore_n (lv' := [(3, .int 0), (0, .ref h), (1, .int a1), (2, .int a2)]) hx hb dX6_startOf_1 rfl hl (by decide) rfl (fun ls hl => ?_)
  have Lm_startOf_l2 : ∀ (n2_2 : Nat) (x1 : Int32) (S2 : MS) (H : Heap) (locs : List Loc) (ls : Array Slot), m_startOf_l2 K a1 a2 n2_2 x1 S2 → mI D dT A s.heap h ad S2 H locs → lv_has ls 4 [(0, .ref h), (1, .int a1), (2, .int a2), (3, .int x1)] → W p l e (mRm 7 145) s m args below meth c H locs 0 0 (MQ below (mQi D dT h ad K A) args s 0 0 A) (F0 m 2 ls []) := by
    intro n2_2
    induction n2_2 with
    | zero =>
      intro x1 S2 H locs ls hs
      exact False.elim hs
    | succ n2_2 ihm_startOf_l2 =>
      intro x1 S2 H locs ls hs hM hl
      rw [m_startOf_l2_s] at hs
      refine lv_iload_n hx hb dX6_startOf_2 rfl (lv_at hl 3 rfl) ?_
      refine lv_bipush (v := 100) hx hb dX6_startOf_3 (by decide) ?_
      refine lv_icmp_ge (tgt := 26) hx hb dX6_startOf_5 (by decide) (fun c6 => ?_) (fun c6 => ?_)
      · replace hs := ifp c6 hs
        refine lv_iconst (v := (-1)) hx hb dX6_startOf_26 (by decide) ?_
        exact m_reti X hK hM hs dX6_startOf_27
      · replace hs := ifn c6 hs
        refine lv_aload_n hx hb dX6_startOf_8 rfl (lv_at hl 0 rfl) ?_
        refine lv_iload_n hx hb dX6_startOf_9 rfl (lv_at hl 1 rfl) ?_
        refine lv_iload_n hx hb dX6_startOf_10 rfl (lv_at hl 3 rfl) ?_
        refine m_calli (rest := []) (av := fun ad => [.int a1, .int x1]) X hK hA hM (met_inFrom l a1 x1 _ _ hs) iX6_inFrom q1930 ⟨Nat.le_of_ble_eq_true rfl, Nat.le_of_ble_eq_true rfl⟩ rfl hl.1 rfl (Nat.le_of_ble_eq_true rfl) dX6_startOf_11 (fun r5 S4 H locs hs hM => ?_)
        refine lv_iload_n hx hb dX6_startOf_14 rfl (lv_at hl 2 rfl) ?_
        refine lv_icmp_gt (tgt := 20) hx hb dX6_startOf_15 (by decide) (fun c5 => ?_) (fun c5 => ?_)
        · replace hs := ifp c5 hs
          refine lv_iinc (v := (x1 + 1)) (lv' := [(3, .int (x1 + 1)), (0, .ref h), (1, .int a1), (2, .int a2)]) hx hb dX6_startOf_20 hl (k := 3) rfl (congrArg (fun z => x1 + z) (show Int32.ofInt (1) = 1 by decide)) (by decide) rfl (fun ls hl => ?_)
          refine lv_goto (tgt := 2) hx hb dX6_startOf_23 (by decide) ?_
          exact ihm_startOf_l2 _ _ _ _ _ hs hM (lv_sub hl [1, 2, 3, 0] rfl)
        · replace hs := ifn c5 hs
          refine lv_iload_n hx hb dX6_startOf_18 rfl (lv_at hl 3 rfl) ?_
          exact m_reti X hK hM hs dX6_startOf_19
  exact Lm_startOf_l2 NF _ _ _ _ _ hs hM (lv_sub hl [1, 2, 3, 0] rfl)
def m_start (a1 : Int32) (a2 : Int32) (S : MS) (K : Int32 → MS → Prop) : Prop := m_isChild a1 S (fun r2 S1 => jn (fun (S3 : MS) => m_noTen (-1) S3 (fun r5 S4 => K r5 S4)) (fun k29_3 => (if r2 = 0 then k29_3 S1 else m_isChild a2 S1 (fun r7 S6 => (if r7 = 0 then k29_3 S6 else m_inOf a2 S6 (fun r9 S8 => m_startOf a1 r9 S8 (fun r11 S10 => K r11 S10)))))))
theorem iX6_start : mInf yX6_start cX6_start 3 (some .int) 2 := ⟨q1923, q1924, q1925, by decide +kernel⟩
set_option maxHeartbeats 4000000 in
theorem met_start (l : Launch) (a1 : Int32) (a2 : Int32) (S : MS) (K : Int32 → MS → Prop) (hs : m_start a1 a2 S K) : mMeti l yX6_start cX6_start 3 8 168 S (fun ad => [.int a1, .int a2]) K := by
  intro D dT h ad sz
  refine mEnter (Qc := mQi D dT h ad K) (by decide) rfl (by rfl) ?_
  intro p e s m args below meth c A ls X hK hA hM hl
  have hx := X.1
  have hb := X.2.1
  have hts := X.2.2.2.2.1
  have hown := X.2.2.2.2.2.1
  have hl : lv_has ls 3 [(0, .ref h), (1, .int a1), (2, .int a2)] := hl
  unfold m_start at hs
  refine lv_aload_n hx hb dX6_start_0 rfl (lv_at hl 0 rfl) ?_
  refine lv_iload_n hx hb dX6_start_1 rfl (lv_at hl 1 rfl) ?_
  refine m_callz (rest := []) (av := fun ad => [.int a1]) X hK hA hM (met_isChild l a1 _ _ hs) iX6_isChild q1682 ⟨Nat.le_of_ble_eq_true rfl, Nat.le_of_ble_eq_true rfl⟩ rfl hl.1 rfl (Nat.le_of_ble_eq_true rfl) dX6_start_2 (fun r2 S1 H locs br2 hs hM => ?_)
  obtain ⟨k29_3, hk29_3, hs⟩ := jn_ex hs
  have Ek29_3 : ∀ (S3 : MS) (H : Heap) (locs : List Loc) (ls : Array Slot), k29_3 S3 → mI D dT A s.heap h ad S3 H locs → lv_has ls 3 [(0, .ref h)] → W p l e (mRm 8 168) s m args below meth c H locs 0 0 (MQ below (mQi D dT h ad K A) args s 0 0 A) (F0 m 29 ls []) := by
    intro S3 H locs ls hs hM hl
    rw [hk29_3] at hs
    refine lv_aload_n hx hb dX6_start_29 rfl (lv_at hl 0 rfl) ?_
    refine lv_iconst (v := (-1)) hx hb dX6_start_30 (by decide) ?_
    refine m_calli (rest := []) (av := fun ad => [.int (-1)]) X hK hA hM (met_noTen l (-1) _ _ hs) iX6_noTen q1934 ⟨Nat.le_of_ble_eq_true rfl, Nat.le_of_ble_eq_true rfl⟩ rfl hl.1 rfl (Nat.le_of_ble_eq_true rfl) dX6_start_31 (fun r5 S4 H locs hs hM => ?_)
    exact m_reti X hK hM hs dX6_start_34
  refine lv_if_eq (tgt := 29) hx hb dX6_start_5 (by decide) (fun c12 => ?_) (fun c12 => ?_)
  · replace hs := ifp c12 hs
    exact Ek29_3 _ _ _ _ hs hM (lv_sub hl [0] rfl)
  · replace hs := ifn c12 hs
    refine lv_aload_n hx hb dX6_start_8 rfl (lv_at hl 0 rfl) ?_
    refine lv_iload_n hx hb dX6_start_9 rfl (lv_at hl 2 rfl) ?_
    refine m_callz (rest := []) (av := fun ad => [.int a2]) X hK hA hM (met_isChild l a2 _ _ hs) iX6_isChild q1682 ⟨Nat.le_of_ble_eq_true rfl, Nat.le_of_ble_eq_true rfl⟩ rfl hl.1 rfl (Nat.le_of_ble_eq_true rfl) dX6_start_10 (fun r7 S6 H locs br7 hs hM => ?_)
    refine lv_if_eq (tgt := 29) hx hb dX6_start_13 (by decide) (fun c11 => ?_) (fun c11 => ?_)
    · replace hs := ifp c11 hs
      exact Ek29_3 _ _ _ _ hs hM (lv_sub hl [0] rfl)
    · replace hs := ifn c11 hs
      refine lv_aload_n hx hb dX6_start_16 rfl (lv_at hl 0 rfl) ?_
      refine lv_iload_n hx hb dX6_start_17 rfl (lv_at hl 1 rfl) ?_
      refine lv_aload_n hx hb dX6_start_18 rfl (lv_at hl 0 rfl) ?_
      refine lv_iload_n hx hb dX6_start_19 rfl (lv_at hl 2 rfl) ?_
      refine m_calli (rest := [.int a1, .ref h]) (av := fun ad => [.int a2]) X hK hA hM (met_inOf l a2 _ _ hs) iX6_inOf q1858 ⟨Nat.le_of_ble_eq_true rfl, Nat.le_of_ble_eq_true rfl⟩ rfl hl.1 rfl (Nat.le_of_ble_eq_true rfl) dX6_start_20 (fun r9 S8 H locs hs hM => ?_)
      refine m_calli (rest := []) (av := fun ad => [.int a1, .int r9]) X hK hA hM (met_startOf l a1 r9 _ _ hs) iX6_startOf q1926 ⟨Nat.le_of_ble_eq_true rfl, Nat.le_of_ble_eq_true rfl⟩ rfl hl.1 rfl (Nat.le_of_ble_eq_true rfl) dX6_start_23 (fun r11 S10 H locs hs hM => ?_)
      refine lv_goto (tgt := 34) hx hb dX6_start_26 (by decide) ?_
      exact m_reti X hK hM hs dX6_start_34
def m_atOnce_l22 (K : Int32 → MS → Prop) (r4 : Int32) : Nat → Int32 → Int32 → MS → Prop
  | 0, _, _, _ => False
  | n22_7 + 1, x5, x6, S7 => (if (S7.1 0) ≤ x6 then K x5 S7 else m_startOf x6 r4 S7 (fun r10 S9 => (if r10 = (-1) then K (-1) S9 else m_atOnce_l22 K r4 n22_7 (x5 + r10) (x6 + 1) S9)))
theorem m_atOnce_l22_s (K : Int32 → MS → Prop) (r4 : Int32) (n22_7 : Nat) (x5 : Int32) (x6 : Int32) (S7 : MS) : m_atOnce_l22 K r4 (n22_7 + 1) x5 x6 S7 = ((if (S7.1 0) ≤ x6 then K x5 S7 else m_startOf x6 r4 S7 (fun r10 S9 => (if r10 = (-1) then K (-1) S9 else m_atOnce_l22 K r4 n22_7 (x5 + r10) (x6 + 1) S9)))) := rfl
def m_atOnce (S : MS) (K : Int32 → MS → Prop) : Prop := (if (S.1 0) = 0 then K 0 S else m_firstIn  S (fun r2 S1 => m_inOf r2 S1 (fun r4 S3 => m_atOnce_l22 K r4 NF 0 0 S3)))
theorem iX6_atOnce : mInf yX6_atOnce cX6_atOnce 5 (some .int) 0 := ⟨q1939, q1940, q1941, by decide +kernel⟩
set_option maxHeartbeats 4000000 in
theorem met_atOnce (l : Launch)  (S : MS) (K : Int32 → MS → Prop) (hs : m_atOnce  S K) : mMeti l yX6_atOnce cX6_atOnce 5 8 168 S (fun ad => []) K := by
  intro D dT h ad sz
  refine mEnter (Qc := mQi D dT h ad K) (by decide) rfl (by rfl) ?_
  intro p e s m args below meth c A ls X hK hA hM hl
  have hx := X.1
  have hb := X.2.1
  have hts := X.2.2.2.2.1
  have hown := X.2.2.2.2.2.1
  have hl : lv_has ls 5 [(0, .ref h)] := hl
  unfold m_atOnce at hs
  refine lv_aload_n hx hb dX6_atOnce_0 rfl (lv_at hl 0 rfl) ?_
  refine m_geti (v := .int (S.1 0)) X hK hM 0 q1476 rfl rfl rfl dX6_atOnce_1 ?_
  refine lv_if_ne (tgt := 9) hx hb dX6_atOnce_4 (by decide) (fun c12 => ?_) (fun c12 => ?_)
  · replace hs := ifn c12 hs
    refine lv_aload_n hx hb dX6_atOnce_9 rfl (lv_at hl 0 rfl) ?_
    refine lv_aload_n hx hb dX6_atOnce_10 rfl (lv_at hl 0 rfl) ?_
    refine m_calli (rest := [.ref h]) (av := fun ad => []) X hK hA hM (met_firstIn l  _ _ hs) iX6_firstIn q1874 ⟨Nat.le_of_ble_eq_true rfl, Nat.le_of_ble_eq_true rfl⟩ rfl hl.1 rfl (Nat.le_of_ble_eq_true rfl) dX6_atOnce_11 (fun r2 S1 H locs hs hM => ?_)
    refine m_calli (rest := []) (av := fun ad => [.int r2]) X hK hA hM (met_inOf l r2 _ _ hs) iX6_inOf q1858 ⟨Nat.le_of_ble_eq_true rfl, Nat.le_of_ble_eq_true rfl⟩ rfl hl.1 rfl (Nat.le_of_ble_eq_true rfl) dX6_atOnce_14 (fun r4 S3 H locs hs hM => ?_)
    refine lv_istore_n (lv' := [(1, .int r4), (0, .ref h)]) hx hb dX6_atOnce_17 rfl hl (by decide) rfl (fun ls hl => ?_)
    refine lv_iconst (v := 0) hx hb dX6_atOnce_18 (by decide) ?_
    refine lv_istore_n (lv' := [(2, .int 0), (1, .int r4), (0, .ref h)]) hx hb dX6_atOnce_19 rfl hl (by decide) rfl (fun ls hl => ?_)
    refine lv_iconst (v := 0) hx hb dX6_atOnce_20 (by decide) ?_
    refine lv_istore_n (lv' := [(3, .int 0), (2, .int 0), (1, .int r4), (0, .ref h)]) hx hb dX6_atOnce_21 rfl hl (by decide) rfl (fun ls hl => ?_)
    have Lm_atOnce_l22 : ∀ (n22_7 : Nat) (x5 : Int32) (x6 : Int32) (S7 : MS) (H : Heap) (locs : List Loc) (ls : Array Slot), m_atOnce_l22 K r4 n22_7 x5 x6 S7 → mI D dT A s.heap h ad S7 H locs → lv_has ls 5 [(0, .ref h), (1, .int r4), (2, .int x5), (3, .int x6)] → W p l e (mRm 8 168) s m args below meth c H locs 0 0 (MQ below (mQi D dT h ad K A) args s 0 0 A) (F0 m 22 ls []) := by
      intro n22_7
      induction n22_7 with
      | zero =>
        intro x5 x6 S7 H locs ls hs
        exact False.elim hs
      | succ n22_7 ihm_atOnce_l22 =>
        intro x5 x6 S7 H locs ls hs hM hl
        rw [m_atOnce_l22_s] at hs
        refine lv_iload_n hx hb dX6_atOnce_22 rfl (lv_at hl 3 rfl) ?_
        refine lv_aload_n hx hb dX6_atOnce_23 rfl (lv_at hl 0 rfl) ?_
        refine m_geti (v := .int (S7.1 0)) X hK hM 0 q1476 rfl rfl rfl dX6_atOnce_24 ?_
        refine lv_icmp_ge (tgt := 57) hx hb dX6_atOnce_27 (by decide) (fun c11 => ?_) (fun c11 => ?_)
        · replace hs := ifp c11 hs
          refine lv_iload_n hx hb dX6_atOnce_57 rfl (lv_at hl 2 rfl) ?_
          exact m_reti X hK hM hs dX6_atOnce_58
        · replace hs := ifn c11 hs
          refine lv_aload_n hx hb dX6_atOnce_30 rfl (lv_at hl 0 rfl) ?_
          refine lv_iload_n hx hb dX6_atOnce_31 rfl (lv_at hl 3 rfl) ?_
          refine lv_iload_n hx hb dX6_atOnce_32 rfl (lv_at hl 1 rfl) ?_
          refine m_calli (rest := []) (av := fun ad => [.int x6, .int r4]) X hK hA hM (met_startOf l x6 r4 _ _ hs) iX6_startOf q1926 ⟨Nat.le_of_ble_eq_true rfl, Nat.le_of_ble_eq_true rfl⟩ rfl hl.1 rfl (Nat.le_of_ble_eq_true rfl) dX6_atOnce_33 (fun r10 S9 H locs hs hM => ?_)
          refine lv_istore (lv' := [(4, .int r10), (0, .ref h), (1, .int r4), (2, .int x5), (3, .int x6)]) hx hb dX6_atOnce_36 hl (by decide) rfl (fun ls hl => ?_)
          refine lv_iload hx hb dX6_atOnce_38 (lv_at hl 0 rfl) ?_
          refine lv_iconst (v := (-1)) hx hb dX6_atOnce_40 (by decide) ?_
          refine lv_icmp_ne (tgt := 46) hx hb dX6_atOnce_41 (by decide) (fun c10 => ?_) (fun c10 => ?_)
          · replace hs := ifn c10 hs
            refine lv_iload_n hx hb dX6_atOnce_46 rfl (lv_at hl 3 rfl) ?_
            refine lv_iload hx hb dX6_atOnce_47 (lv_at hl 0 rfl) ?_
            refine lv_iadd hx hb dX6_atOnce_49 ?_
            refine lv_istore_n (lv' := [(2, .int (x5 + r10)), (4, .int r10), (0, .ref h), (1, .int r4), (3, .int x6)]) hx hb dX6_atOnce_50 rfl hl (by decide) rfl (fun ls hl => ?_)
            refine lv_iinc (v := (x6 + 1)) (lv' := [(3, .int (x6 + 1)), (2, .int (x5 + r10)), (4, .int r10), (0, .ref h), (1, .int r4)]) hx hb dX6_atOnce_51 hl (k := 4) rfl (congrArg (fun z => x6 + z) (show Int32.ofInt (1) = 1 by decide)) (by decide) rfl (fun ls hl => ?_)
            refine lv_goto (tgt := 22) hx hb dX6_atOnce_54 (by decide) ?_
            exact ihm_atOnce_l22 _ _ _ _ _ _ hs hM (lv_sub hl [3, 4, 1, 0] rfl)
          · replace hs := ifp c10 hs
            refine lv_iconst (v := (-1)) hx hb dX6_atOnce_44 (by decide) ?_
            exact m_reti X hK hM hs dX6_atOnce_45
    exact Lm_atOnce_l22 NF _ _ _ _ _ _ hs hM (lv_sub hl [3, 2, 1, 0] rfl)
  · replace hs := ifp c12 hs
    refine lv_iconst (v := 0) hx hb dX6_atOnce_7 (by decide) ?_
    exact m_reti X hK hM hs dX6_atOnce_8
def m_heats_l107 (a1 : Int32) (x12 : Int32) (x22 : Int32) (k157_27 : Int32 → MS → Prop) : Nat → Int32 → Int32 → MS → Prop
  | 0, _, _, _ => False
  | n107_32 + 1, x30, x31, S32 => (if x12 ≤ x31 then k157_27 x30 S32 else (if (x22 + a1) ≤ x31 then k157_27 x30 S32 else obd (mald S32 51 x31) (fun v34 => m_inOf v34 S32 (fun r36 S35 => m_inOf x30 S35 (fun r38 S37 => jn (fun (x39 : Int32) => m_heats_l107 a1 x12 x22 k157_27 n107_32 x39 (x31 + 1) S37) (fun k151_39 => (if r38 ≤ r36 then k151_39 x30 else obd (mald S37 51 x31) (fun v40 => k151_39 v40))))))))
theorem m_heats_l107_s (a1 : Int32) (x12 : Int32) (x22 : Int32) (k157_27 : Int32 → MS → Prop) (n107_32 : Nat) (x30 : Int32) (x31 : Int32) (S32 : MS) : m_heats_l107 a1 x12 x22 k157_27 (n107_32 + 1) x30 x31 S32 = ((if x12 ≤ x31 then k157_27 x30 S32 else (if (x22 + a1) ≤ x31 then k157_27 x30 S32 else obd (mald S32 51 x31) (fun v34 => m_inOf v34 S32 (fun r36 S35 => m_inOf x30 S35 (fun r38 S37 => jn (fun (x39 : Int32) => m_heats_l107 a1 x12 x22 k157_27 n107_32 x39 (x31 + 1) S37) (fun k151_39 => (if r38 ≤ r36 then k151_39 x30 else obd (mald S37 51 x31) (fun v40 => k151_39 v40))))))))) := rfl
def m_heats_l86 (a1 : Int32) (x12 : Int32) (k181_18 : Int32 → Int32 → MS → Prop) : Nat → Int32 → Int32 → Int32 → MS → Prop
  | 0, _, _, _, _ => False
  | n86_23 + 1, x20, x21, x22, S23 => (if x12 ≤ x22 then k181_18 x20 x21 S23 else obd (mald S23 51 x22) (fun v25 => jn (fun (x26 : Int32) (S27 : MS) => obd (mast S27 51 x21 x26) (fun S29 => m_heats_l86 a1 x12 k181_18 n86_23 (x20 + 1) (x21 + 1) (x22 + a1) S29)) (fun k157_27 => m_heats_l107 a1 x12 x22 k157_27 NF v25 (x22 + 1) S23)))
theorem m_heats_l86_s (a1 : Int32) (x12 : Int32) (k181_18 : Int32 → Int32 → MS → Prop) (n86_23 : Nat) (x20 : Int32) (x21 : Int32) (x22 : Int32) (S23 : MS) : m_heats_l86 a1 x12 k181_18 (n86_23 + 1) x20 x21 x22 S23 = ((if x12 ≤ x22 then k181_18 x20 x21 S23 else obd (mald S23 51 x22) (fun v25 => jn (fun (x26 : Int32) (S27 : MS) => obd (mast S27 51 x21 x26) (fun S29 => m_heats_l86 a1 x12 k181_18 n86_23 (x20 + 1) (x21 + 1) (x22 + a1) S29)) (fun k157_27 => m_heats_l107 a1 x12 x22 k157_27 NF v25 (x22 + 1) S23)))) := rfl
def m_heats_l75 (a1 : Int32) (k187_8 : Int32 → MS → Prop) : Nat → Int32 → Int32 → MS → Prop
  | 0, _, _, _ => False
  | n75_14 + 1, x12, x13, S14 => (if x12 ≤ 1 then k187_8 x13 S14 else jn (fun (x16 : Int32) (x17 : Int32) (S18 : MS) => m_heats_l75 a1 k187_8 n75_14 x17 x16 S18) (fun k181_18 => m_heats_l86 a1 x12 k181_18 NF x13 0 0 S14))
theorem m_heats_l75_s (a1 : Int32) (k187_8 : Int32 → MS → Prop) (n75_14 : Nat) (x12 : Int32) (x13 : Int32) (S14 : MS) : m_heats_l75 a1 k187_8 (n75_14 + 1) x12 x13 S14 = ((if x12 ≤ 1 then k187_8 x13 S14 else jn (fun (x16 : Int32) (x17 : Int32) (S18 : MS) => m_heats_l75 a1 k187_8 n75_14 x17 x16 S18) (fun k181_18 => m_heats_l86 a1 x12 k181_18 NF x13 0 0 S14))) := rfl
def m_heats_l51 (k75_5 : MS → Prop) : Nat → Int32 → MS → Prop
  | 0, _, _ => False
  | n51_47 + 1, x46, S47 => (if (S47.1 0) ≤ x46 then k75_5 S47 else obd (mast S47 51 x46 x46) (fun S49 => m_heats_l51 k75_5 n51_47 (x46 + 1) S49))
theorem m_heats_l51_s (k75_5 : MS → Prop) (n51_47 : Nat) (x46 : Int32) (S47 : MS) : m_heats_l51 k75_5 (n51_47 + 1) x46 S47 = ((if (S47.1 0) ≤ x46 then k75_5 S47 else obd (mast S47 51 x46 x46) (fun S49 => m_heats_l51 k75_5 n51_47 (x46 + 1) S49))) := rfl
def m_heats (a1 : Int32) (a2 : Int32) (S : MS) (K : Int32 → MS → Prop) : Prop := jn (m_no (-5) S (fun r2 S1 => K r2 S1)) (fun k16_0 => (if a2 < 0 then k16_0 else (if 1 < a2 then k16_0 else (if (S.1 0) = 0 then k16_0 else jn (m_no (-6) S (fun r4 S3 => K r4 S3)) (fun k33_2 => (if a1 < 2 then k33_2 else (if a1 ≤ 4 then jn (fun (S5 : MS) => jn (fun (x7 : Int32) (S8 : MS) => (if a2 = 0 then obd (mald S8 51 0) (fun v10 => K v10 S8) else K x7 S8)) (fun k187_8 => m_heats_l75 a1 k187_8 NF (S.1 0) 0 S5)) (fun k75_5 => m_heats_l51 k75_5 NF 0 S) else k33_2)))))))
theorem iX6_heats : mInf yX6_heats cX6_heats 9 (some .int) 2 := ⟨q1943, q1944, q1945, by decide +kernel⟩
set_option maxHeartbeats 4000000 in
theorem met_heats (l : Launch) (a1 : Int32) (a2 : Int32) (S : MS) (K : Int32 → MS → Prop) (hs : m_heats a1 a2 S K) : mMeti l yX6_heats cX6_heats 9 7 144 S (fun ad => [.int a1, .int a2]) K := by
  intro D dT h ad sz
  refine mEnter (Qc := mQi D dT h ad K) (by decide) rfl (by rfl) ?_
  intro p e s m args below meth c A ls X hK hA hM hl
  have hx := X.1
  have hb := X.2.1
  have hts := X.2.2.2.2.1
  have hown := X.2.2.2.2.2.1
  have hl : lv_has ls 9 [(0, .ref h), (1, .int a1), (2, .int a2)] := hl
  unfold m_heats at hs
  refine lv_iload_n hx hb dX6_heats_0 rfl (lv_at hl 2 rfl) ?_
  obtain ⟨k16_0, hk16_0, hs⟩ := jn_ex hs
  have Ek16_0 : ∀ (H : Heap) (locs : List Loc) (ls : Array Slot), k16_0 → mI D dT A s.heap h ad S H locs → lv_has ls 9 [(0, .ref h)] → W p l e (mRm 7 144) s m args below meth c H locs 0 0 (MQ below (mQi D dT h ad K A) args s 0 0 A) (F0 m 16 ls []) := by
    intro H locs ls hs hM hl
    rw [hk16_0] at hs
    refine lv_aload_n hx hb dX6_heats_16 rfl (lv_at hl 0 rfl) ?_
    refine lv_bipush (v := (-5)) hx hb dX6_heats_17 (by decide) ?_
    refine m_calli (rest := []) (av := fun ad => [.int (-5)]) X hK hA hM (met_no l (-5) _ _ hs) iX6_no q1662 ⟨Nat.le_of_ble_eq_true rfl, Nat.le_of_ble_eq_true rfl⟩ rfl hl.1 rfl (Nat.le_of_ble_eq_true rfl) dX6_heats_19 (fun r2 S1 H locs hs hM => ?_)
    exact m_reti X hK hM hs dX6_heats_22
  refine lv_if_lt (tgt := 16) hx hb dX6_heats_1 (by decide) (fun c54 => ?_) (fun c54 => ?_)
  · replace hs := ifp c54 hs
    exact Ek16_0 _ _ _ hs hM (lv_sub hl [0] rfl)
  · replace hs := ifn c54 hs
    refine lv_iload_n hx hb dX6_heats_4 rfl (lv_at hl 2 rfl) ?_
    refine lv_iconst (v := 1) hx hb dX6_heats_5 (by decide) ?_
    refine lv_icmp_gt (tgt := 16) hx hb dX6_heats_6 (by decide) (fun c53 => ?_) (fun c53 => ?_)
    · replace hs := ifp c53 hs
      exact Ek16_0 _ _ _ hs hM (lv_sub hl [0] rfl)
    · replace hs := ifn c53 hs
      refine lv_aload_n hx hb dX6_heats_9 rfl (lv_at hl 0 rfl) ?_
      refine m_geti (v := .int (S.1 0)) X hK hM 0 q1476 rfl rfl rfl dX6_heats_10 ?_
      refine lv_if_ne (tgt := 23) hx hb dX6_heats_13 (by decide) (fun c52 => ?_) (fun c52 => ?_)
      · replace hs := ifn c52 hs
        refine lv_iload_n hx hb dX6_heats_23 rfl (lv_at hl 1 rfl) ?_
        refine lv_iconst (v := 2) hx hb dX6_heats_24 (by decide) ?_
        obtain ⟨k33_2, hk33_2, hs⟩ := jn_ex hs
        have Ek33_2 : ∀ (H : Heap) (locs : List Loc) (ls : Array Slot), k33_2 → mI D dT A s.heap h ad S H locs → lv_has ls 9 [(0, .ref h)] → W p l e (mRm 7 144) s m args below meth c H locs 0 0 (MQ below (mQi D dT h ad K A) args s 0 0 A) (F0 m 33 ls []) := by
          intro H locs ls hs hM hl
          rw [hk33_2] at hs
          refine lv_aload_n hx hb dX6_heats_33 rfl (lv_at hl 0 rfl) ?_
          refine lv_bipush (v := (-6)) hx hb dX6_heats_34 (by decide) ?_
          refine m_calli (rest := []) (av := fun ad => [.int (-6)]) X hK hA hM (met_no l (-6) _ _ hs) iX6_no q1662 ⟨Nat.le_of_ble_eq_true rfl, Nat.le_of_ble_eq_true rfl⟩ rfl hl.1 rfl (Nat.le_of_ble_eq_true rfl) dX6_heats_36 (fun r4 S3 H locs hs hM => ?_)
          exact m_reti X hK hM hs dX6_heats_39
        refine lv_icmp_lt (tgt := 33) hx hb dX6_heats_25 (by decide) (fun c51 => ?_) (fun c51 => ?_)
        · replace hs := ifp c51 hs
          exact Ek33_2 _ _ _ hs hM (lv_sub hl [0] rfl)
        · replace hs := ifn c51 hs
          refine lv_iload_n hx hb dX6_heats_28 rfl (lv_at hl 1 rfl) ?_
          refine lv_iconst (v := 4) hx hb dX6_heats_29 (by decide) ?_
          refine lv_icmp_le (tgt := 40) hx hb dX6_heats_30 (by decide) (fun c50 => ?_) (fun c50 => ?_)
          · replace hs := ifp c50 hs
            refine lv_aload_n hx hb dX6_heats_40 rfl (lv_at hl 0 rfl) ?_
            refine m_geti (v := .int (S.1 0)) X hK hM 0 q1476 rfl rfl rfl dX6_heats_41 ?_
            refine lv_istore_n (lv' := [(3, .int (S.1 0)), (0, .ref h), (1, .int a1), (2, .int a2)]) hx hb dX6_heats_44 rfl hl (by decide) rfl (fun ls hl => ?_)
            refine lv_iconst (v := 0) hx hb dX6_heats_45 (by decide) ?_
            refine lv_istore (lv' := [(4, .int 0), (3, .int (S.1 0)), (0, .ref h), (1, .int a1), (2, .int a2)]) hx hb dX6_heats_46 hl (by decide) rfl (fun ls hl => ?_)
            refine lv_iconst (v := 0) hx hb dX6_heats_48 (by decide) ?_
            refine lv_istore (lv' := [(5, .int 0), (4, .int 0), (3, .int (S.1 0)), (0, .ref h), (1, .int a1), (2, .int a2)]) hx hb dX6_heats_49 hl (by decide) rfl (fun ls hl => ?_)
            obtain ⟨k75_5, hk75_5, hs⟩ := jn_ex hs
            have Ek75_5 : ∀ (S5 : MS) (H : Heap) (locs : List Loc) (ls : Array Slot), k75_5 S5 → mI D dT A s.heap h ad S5 H locs → lv_has ls 9 [(0, .ref h), (1, .int a1), (2, .int a2), (3, .int (S.1 0)), (4, .int 0)] → W p l e (mRm 7 144) s m args below meth c H locs 0 0 (MQ below (mQi D dT h ad K A) args s 0 0 A) (F0 m 75 ls []) := by
              intro S5 H locs ls hs hM hl
              rw [hk75_5] at hs
              obtain ⟨k187_8, hk187_8, hs⟩ := jn_ex hs
              have Ek187_8 : ∀ (x7 : Int32) (S8 : MS) (H : Heap) (locs : List Loc) (ls : Array Slot), k187_8 x7 S8 → mI D dT A s.heap h ad S8 H locs → lv_has ls 9 [(0, .ref h), (2, .int a2), (4, .int x7)] → W p l e (mRm 7 144) s m args below meth c H locs 0 0 (MQ below (mQi D dT h ad K A) args s 0 0 A) (F0 m 187 ls []) := by
                intro x7 S8 H locs ls hs hM hl
                rw [hk187_8] at hs
                refine lv_iload_n hx hb dX6_heats_187 rfl (lv_at hl 1 rfl) ?_
                refine lv_if_ne (tgt := 200) hx hb dX6_heats_188 (by decide) (fun c10 => ?_) (fun c10 => ?_)
                · replace hs := ifn c10 hs
                  refine lv_iload hx hb dX6_heats_200 (lv_at hl 2 rfl) ?_
                  exact m_reti X hK hM hs dX6_heats_202
                · replace hs := ifp c10 hs
                  refine lv_aload_n hx hb dX6_heats_191 rfl (lv_at hl 0 rfl) ?_
                  refine m_geti (v := .ref (ad 51)) X hK hM 51 q1527 rfl rfl rfl dX6_heats_192 ?_
                  refine lv_iconst (v := 0) hx hb dX6_heats_195 (by decide) ?_
                  obtain ⟨v10, ev10, hs⟩ := hs
                  refine m_iald X hK hM rfl ev10 dX6_heats_196 ?_
                  refine lv_goto (tgt := 202) hx hb dX6_heats_197 (by decide) ?_
                  exact m_reti X hK hM hs dX6_heats_202
              have Lm_heats_l75 : ∀ (n75_14 : Nat) (x12 : Int32) (x13 : Int32) (S14 : MS) (H : Heap) (locs : List Loc) (ls : Array Slot), m_heats_l75 a1 k187_8 n75_14 x12 x13 S14 → mI D dT A s.heap h ad S14 H locs → lv_has ls 9 [(0, .ref h), (1, .int a1), (2, .int a2), (3, .int x12), (4, .int x13)] → W p l e (mRm 7 144) s m args below meth c H locs 0 0 (MQ below (mQi D dT h ad K A) args s 0 0 A) (F0 m 75 ls []) := by
                intro n75_14
                induction n75_14 with
                | zero =>
                  intro x12 x13 S14 H locs ls hs
                  exact False.elim hs
                | succ n75_14 ihm_heats_l75 =>
                  intro x12 x13 S14 H locs ls hs hM hl
                  rw [m_heats_l75_s] at hs
                  refine lv_iload_n hx hb dX6_heats_75 rfl (lv_at hl 3 rfl) ?_
                  refine lv_iconst (v := 1) hx hb dX6_heats_76 (by decide) ?_
                  refine lv_icmp_le (tgt := 187) hx hb dX6_heats_77 (by decide) (fun c44 => ?_) (fun c44 => ?_)
                  · replace hs := ifp c44 hs
                    exact Ek187_8 _ _ _ _ _ hs hM (lv_sub hl [0, 2, 4] rfl)
                  · replace hs := ifn c44 hs
                    refine lv_iconst (v := 0) hx hb dX6_heats_80 (by decide) ?_
                    refine lv_istore (lv' := [(5, .int 0), (0, .ref h), (1, .int a1), (2, .int a2), (3, .int x12), (4, .int x13)]) hx hb dX6_heats_81 hl (by decide) rfl (fun ls hl => ?_)
                    refine lv_iconst (v := 0) hx hb dX6_heats_83 (by decide) ?_
                    refine lv_istore (lv' := [(6, .int 0), (5, .int 0), (0, .ref h), (1, .int a1), (2, .int a2), (3, .int x12), (4, .int x13)]) hx hb dX6_heats_84 hl (by decide) rfl (fun ls hl => ?_)
                    obtain ⟨k181_18, hk181_18, hs⟩ := jn_ex hs
                    have Ek181_18 : ∀ (x16 : Int32) (x17 : Int32) (S18 : MS) (H : Heap) (locs : List Loc) (ls : Array Slot), k181_18 x16 x17 S18 → mI D dT A s.heap h ad S18 H locs → lv_has ls 9 [(0, .ref h), (1, .int a1), (2, .int a2), (4, .int x16), (5, .int x17)] → W p l e (mRm 7 144) s m args below meth c H locs 0 0 (MQ below (mQi D dT h ad K A) args s 0 0 A) (F0 m 181 ls []) := by
                      intro x16 x17 S18 H locs ls hs hM hl
                      rw [hk181_18] at hs
                      refine lv_iload hx hb dX6_heats_181 (lv_at hl 4 rfl) ?_
                      refine lv_istore_n (lv' := [(3, .int x17), (0, .ref h), (1, .int a1), (2, .int a2), (4, .int x16), (5, .int x17)]) hx hb dX6_heats_183 rfl hl (by decide) rfl (fun ls hl => ?_)
                      refine lv_goto (tgt := 75) hx hb dX6_heats_184 (by decide) ?_
                      exact ihm_heats_l75 _ _ _ _ _ _ hs hM (lv_sub hl [1, 2, 3, 0, 4] rfl)
                    have Lm_heats_l86 : ∀ (n86_23 : Nat) (x20 : Int32) (x21 : Int32) (x22 : Int32) (S23 : MS) (H : Heap) (locs : List Loc) (ls : Array Slot), m_heats_l86 a1 x12 k181_18 n86_23 x20 x21 x22 S23 → mI D dT A s.heap h ad S23 H locs → lv_has ls 9 [(0, .ref h), (1, .int a1), (2, .int a2), (3, .int x12), (4, .int x20), (5, .int x21), (6, .int x22)] → W p l e (mRm 7 144) s m args below meth c H locs 0 0 (MQ below (mQi D dT h ad K A) args s 0 0 A) (F0 m 86 ls []) := by
                      intro n86_23
                      induction n86_23 with
                      | zero =>
                        intro x20 x21 x22 S23 H locs ls hs
                        exact False.elim hs
                      | succ n86_23 ihm_heats_l86 =>
                        intro x20 x21 x22 S23 H locs ls hs hM hl
                        rw [m_heats_l86_s] at hs
                        refine lv_iload hx hb dX6_heats_86 (lv_at hl 6 rfl) ?_
                        refine lv_iload_n hx hb dX6_heats_88 rfl (lv_at hl 3 rfl) ?_
                        refine lv_icmp_ge (tgt := 181) hx hb dX6_heats_89 (by decide) (fun c43 => ?_) (fun c43 => ?_)
                        · replace hs := ifp c43 hs
                          exact Ek181_18 _ _ _ _ _ _ hs hM (lv_sub hl [0, 1, 2, 4, 5] rfl)
                        · replace hs := ifn c43 hs
                          refine lv_aload_n hx hb dX6_heats_92 rfl (lv_at hl 0 rfl) ?_
                          refine m_geti (v := .ref (ad 51)) X hK hM 51 q1527 rfl rfl rfl dX6_heats_93 ?_
                          refine lv_iload hx hb dX6_heats_96 (lv_at hl 6 rfl) ?_
                          obtain ⟨v25, ev25, hs⟩ := hs
                          refine m_iald X hK hM rfl ev25 dX6_heats_98 ?_
                          refine lv_istore (lv' := [(7, .int v25), (0, .ref h), (1, .int a1), (2, .int a2), (3, .int x12), (4, .int x20), (5, .int x21), (6, .int x22)]) hx hb dX6_heats_99 hl (by decide) rfl (fun ls hl => ?_)
                          refine lv_iload hx hb dX6_heats_101 (lv_at hl 7 rfl) ?_
                          refine lv_iconst (v := 1) hx hb dX6_heats_103 (by decide) ?_
                          refine lv_iadd hx hb dX6_heats_104 ?_
                          refine lv_istore (lv' := [(8, .int (x22 + 1)), (7, .int v25), (0, .ref h), (1, .int a1), (2, .int a2), (3, .int x12), (4, .int x20), (5, .int x21), (6, .int x22)]) hx hb dX6_heats_105 hl (by decide) rfl (fun ls hl => ?_)
                          obtain ⟨k157_27, hk157_27, hs⟩ := jn_ex hs
                          have Ek157_27 : ∀ (x26 : Int32) (S27 : MS) (H : Heap) (locs : List Loc) (ls : Array Slot), k157_27 x26 S27 → mI D dT A s.heap h ad S27 H locs → lv_has ls 9 [(0, .ref h), (1, .int a1), (2, .int a2), (3, .int x12), (4, .int x20), (5, .int x21), (6, .int x22), (7, .int x26)] → W p l e (mRm 7 144) s m args below meth c H locs 0 0 (MQ below (mQi D dT h ad K A) args s 0 0 A) (F0 m 157 ls []) := by
                            intro x26 S27 H locs ls hs hM hl
                            rw [hk157_27] at hs
                            refine lv_aload_n hx hb dX6_heats_157 rfl (lv_at hl 0 rfl) ?_
                            refine m_geti (v := .ref (ad 51)) X hK hM 51 q1527 rfl rfl rfl dX6_heats_158 ?_
                            refine lv_iload hx hb dX6_heats_161 (lv_at hl 5 rfl) ?_
                            refine lv_iload hx hb dX6_heats_163 (lv_at hl 7 rfl) ?_
                            obtain ⟨S29, eS29, hs⟩ := hs
                            refine m_iast X hK hM rfl eS29 dX6_heats_165 (fun H locs hM => ?_)
                            refine lv_iinc (v := (x21 + 1)) (lv' := [(5, .int (x21 + 1)), (0, .ref h), (1, .int a1), (2, .int a2), (3, .int x12), (4, .int x20), (6, .int x22), (7, .int x26)]) hx hb dX6_heats_166 hl (k := 5) rfl (congrArg (fun z => x21 + z) (show Int32.ofInt (1) = 1 by decide)) (by decide) rfl (fun ls hl => ?_)
                            refine lv_iinc (v := (x20 + 1)) (lv' := [(4, .int (x20 + 1)), (5, .int (x21 + 1)), (0, .ref h), (1, .int a1), (2, .int a2), (3, .int x12), (6, .int x22), (7, .int x26)]) hx hb dX6_heats_169 hl (k := 5) rfl (congrArg (fun z => x20 + z) (show Int32.ofInt (1) = 1 by decide)) (by decide) rfl (fun ls hl => ?_)
                            refine lv_iload hx hb dX6_heats_172 (lv_at hl 6 rfl) ?_
                            refine lv_iload_n hx hb dX6_heats_174 rfl (lv_at hl 3 rfl) ?_
                            refine lv_iadd hx hb dX6_heats_175 ?_
                            refine lv_istore (lv' := [(6, .int (x22 + a1)), (4, .int (x20 + 1)), (5, .int (x21 + 1)), (0, .ref h), (1, .int a1), (2, .int a2), (3, .int x12), (7, .int x26)]) hx hb dX6_heats_176 hl (by decide) rfl (fun ls hl => ?_)
                            refine lv_goto (tgt := 86) hx hb dX6_heats_178 (by decide) ?_
                            exact ihm_heats_l86 _ _ _ _ _ _ _ hs hM (lv_sub hl [3, 4, 5, 6, 1, 2, 0] rfl)
                          have Lm_heats_l107 : ∀ (n107_32 : Nat) (x30 : Int32) (x31 : Int32) (S32 : MS) (H : Heap) (locs : List Loc) (ls : Array Slot), m_heats_l107 a1 x12 x22 k157_27 n107_32 x30 x31 S32 → mI D dT A s.heap h ad S32 H locs → lv_has ls 9 [(0, .ref h), (1, .int a1), (2, .int a2), (3, .int x12), (4, .int x20), (5, .int x21), (6, .int x22), (7, .int x30), (8, .int x31)] → W p l e (mRm 7 144) s m args below meth c H locs 0 0 (MQ below (mQi D dT h ad K A) args s 0 0 A) (F0 m 107 ls []) := by
                            intro n107_32
                            induction n107_32 with
                            | zero =>
                              intro x30 x31 S32 H locs ls hs
                              exact False.elim hs
                            | succ n107_32 ihm_heats_l107 =>
                              intro x30 x31 S32 H locs ls hs hM hl
                              rw [m_heats_l107_s] at hs
                              refine lv_iload hx hb dX6_heats_107 (lv_at hl 8 rfl) ?_
                              refine lv_iload_n hx hb dX6_heats_109 rfl (lv_at hl 3 rfl) ?_
                              refine lv_icmp_ge (tgt := 157) hx hb dX6_heats_110 (by decide) (fun c42 => ?_) (fun c42 => ?_)
                              · replace hs := ifp c42 hs
                                exact Ek157_27 _ _ _ _ _ hs hM (lv_sub hl [0, 1, 2, 3, 4, 5, 6, 7] rfl)
                              · replace hs := ifn c42 hs
                                refine lv_iload hx hb dX6_heats_113 (lv_at hl 8 rfl) ?_
                                refine lv_iload hx hb dX6_heats_115 (lv_at hl 6 rfl) ?_
                                refine lv_iload_n hx hb dX6_heats_117 rfl (lv_at hl 1 rfl) ?_
                                refine lv_iadd hx hb dX6_heats_118 ?_
                                refine lv_icmp_ge (tgt := 157) hx hb dX6_heats_119 (by decide) (fun c41 => ?_) (fun c41 => ?_)
                                · replace hs := ifp c41 hs
                                  exact Ek157_27 _ _ _ _ _ hs hM (lv_sub hl [0, 1, 2, 3, 4, 5, 6, 7] rfl)
                                · replace hs := ifn c41 hs
                                  refine lv_aload_n hx hb dX6_heats_122 rfl (lv_at hl 0 rfl) ?_
                                  refine lv_aload_n hx hb dX6_heats_123 rfl (lv_at hl 0 rfl) ?_
                                  refine m_geti (v := .ref (ad 51)) X hK hM 51 q1527 rfl rfl rfl dX6_heats_124 ?_
                                  refine lv_iload hx hb dX6_heats_127 (lv_at hl 8 rfl) ?_
                                  obtain ⟨v34, ev34, hs⟩ := hs
                                  refine m_iald X hK hM rfl ev34 dX6_heats_129 ?_
                                  refine m_calli (rest := []) (av := fun ad => [.int v34]) X hK hA hM (met_inOf l v34 _ _ hs) iX6_inOf q1858 ⟨Nat.le_of_ble_eq_true rfl, Nat.le_of_ble_eq_true rfl⟩ rfl hl.1 rfl (Nat.le_of_ble_eq_true rfl) dX6_heats_130 (fun r36 S35 H locs hs hM => ?_)
                                  refine lv_aload_n hx hb dX6_heats_133 rfl (lv_at hl 0 rfl) ?_
                                  refine lv_iload hx hb dX6_heats_134 (lv_at hl 7 rfl) ?_
                                  refine m_calli (rest := [.int r36]) (av := fun ad => [.int x30]) X hK hA hM (met_inOf l x30 _ _ hs) iX6_inOf q1858 ⟨Nat.le_of_ble_eq_true rfl, Nat.le_of_ble_eq_true rfl⟩ rfl hl.1 rfl (Nat.le_of_ble_eq_true rfl) dX6_heats_136 (fun r38 S37 H locs hs hM => ?_)
                                  obtain ⟨k151_39, hk151_39, hs⟩ := jn_ex hs
                                  have Ek151_39 : ∀ (x39 : Int32) (H : Heap) (locs : List Loc) (ls : Array Slot), k151_39 x39 → mI D dT A s.heap h ad S37 H locs → lv_has ls 9 [(0, .ref h), (1, .int a1), (2, .int a2), (3, .int x12), (4, .int x20), (5, .int x21), (6, .int x22), (7, .int x39), (8, .int x31)] → W p l e (mRm 7 144) s m args below meth c H locs 0 0 (MQ below (mQi D dT h ad K A) args s 0 0 A) (F0 m 151 ls []) := by
                                    intro x39 H locs ls hs hM hl
                                    rw [hk151_39] at hs
                                    refine lv_iinc (v := (x31 + 1)) (lv' := [(8, .int (x31 + 1)), (0, .ref h), (1, .int a1), (2, .int a2), (3, .int x12), (4, .int x20), (5, .int x21), (6, .int x22), (7, .int x39)]) hx hb dX6_heats_151 hl (k := 8) rfl (congrArg (fun z => x31 + z) (show Int32.ofInt (1) = 1 by decide)) (by decide) rfl (fun ls hl => ?_)
                                    refine lv_goto (tgt := 107) hx hb dX6_heats_154 (by decide) ?_
                                    exact ihm_heats_l107 _ _ _ _ _ _ hs hM (lv_sub hl [1, 2, 3, 4, 5, 6, 7, 8, 0] rfl)
                                  refine lv_icmp_ge (tgt := 151) hx hb dX6_heats_139 (by decide) (fun c40 => ?_) (fun c40 => ?_)
                                  · replace hs := ifp c40 hs
                                    exact Ek151_39 _ _ _ _ hs hM hl
                                  · replace hs := ifn c40 hs
                                    refine lv_aload_n hx hb dX6_heats_142 rfl (lv_at hl 0 rfl) ?_
                                    refine m_geti (v := .ref (ad 51)) X hK hM 51 q1527 rfl rfl rfl dX6_heats_143 ?_
                                    refine lv_iload hx hb dX6_heats_146 (lv_at hl 8 rfl) ?_
                                    obtain ⟨v40, ev40, hs⟩ := hs
                                    refine m_iald X hK hM rfl ev40 dX6_heats_148 ?_
                                    refine lv_istore (lv' := [(7, .int v40), (0, .ref h), (1, .int a1), (2, .int a2), (3, .int x12), (4, .int x20), (5, .int x21), (6, .int x22), (8, .int x31)]) hx hb dX6_heats_149 hl (by decide) rfl (fun ls hl => ?_)
                                    exact Ek151_39 _ _ _ _ hs hM (lv_sub hl [1, 2, 3, 4, 5, 6, 7, 0, 8] rfl)
                          exact Lm_heats_l107 NF _ _ _ _ _ _ hs hM (lv_sub hl [2, 3, 4, 5, 6, 7, 8, 1, 0] rfl)
                    exact Lm_heats_l86 NF _ _ _ _ _ _ _ hs hM (lv_sub hl [2, 3, 4, 5, 6, 1, 0] rfl)
              exact Lm_heats_l75 NF _ _ _ _ _ _ hs hM hl
            have Lm_heats_l51 : ∀ (n51_47 : Nat) (x46 : Int32) (S47 : MS) (H : Heap) (locs : List Loc) (ls : Array Slot), m_heats_l51 k75_5 n51_47 x46 S47 → mI D dT A s.heap h ad S47 H locs → lv_has ls 9 [(0, .ref h), (1, .int a1), (2, .int a2), (3, .int (S.1 0)), (4, .int 0), (5, .int x46)] → W p l e (mRm 7 144) s m args below meth c H locs 0 0 (MQ below (mQi D dT h ad K A) args s 0 0 A) (F0 m 51 ls []) := by
              intro n51_47
              induction n51_47 with
              | zero =>
                intro x46 S47 H locs ls hs
                exact False.elim hs
              | succ n51_47 ihm_heats_l51 =>
                intro x46 S47 H locs ls hs hM hl
                rw [m_heats_l51_s] at hs
                refine lv_iload hx hb dX6_heats_51 (lv_at hl 5 rfl) ?_
                refine lv_aload_n hx hb dX6_heats_53 rfl (lv_at hl 0 rfl) ?_
                refine m_geti (v := .int (S47.1 0)) X hK hM 0 q1476 rfl rfl rfl dX6_heats_54 ?_
                refine lv_icmp_ge (tgt := 75) hx hb dX6_heats_57 (by decide) (fun c49 => ?_) (fun c49 => ?_)
                · replace hs := ifp c49 hs
                  exact Ek75_5 _ _ _ _ hs hM (lv_sub hl [0, 1, 2, 3, 4] rfl)
                · replace hs := ifn c49 hs
                  refine lv_aload_n hx hb dX6_heats_60 rfl (lv_at hl 0 rfl) ?_
                  refine m_geti (v := .ref (ad 51)) X hK hM 51 q1527 rfl rfl rfl dX6_heats_61 ?_
                  refine lv_iload hx hb dX6_heats_64 (lv_at hl 5 rfl) ?_
                  refine lv_iload hx hb dX6_heats_66 (lv_at hl 5 rfl) ?_
                  obtain ⟨S49, eS49, hs⟩ := hs
                  refine m_iast X hK hM rfl eS49 dX6_heats_68 (fun H locs hM => ?_)
                  refine lv_iinc (v := (x46 + 1)) (lv' := [(5, .int (x46 + 1)), (0, .ref h), (1, .int a1), (2, .int a2), (3, .int (S.1 0)), (4, .int 0)]) hx hb dX6_heats_69 hl (k := 5) rfl (congrArg (fun z => x46 + z) (show Int32.ofInt (1) = 1 by decide)) (by decide) rfl (fun ls hl => ?_)
                  refine lv_goto (tgt := 51) hx hb dX6_heats_72 (by decide) ?_
                  exact ihm_heats_l51 _ _ _ _ _ hs hM (lv_sub hl [1, 2, 3, 4, 5, 0] rfl)
            exact Lm_heats_l51 NF _ _ _ _ _ hs hM (lv_sub hl [3, 4, 5, 2, 1, 0] rfl)
          · replace hs := ifn c50 hs
            exact Ek33_2 _ _ _ hs hM (lv_sub hl [0] rfl)
      · replace hs := ifp c52 hs
        exact Ek16_0 _ _ _ hs hM (lv_sub hl [0] rfl)
