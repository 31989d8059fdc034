set_option maxRecDepth 100000
def m_carries_l3 (K : Int32 → MS → Prop) (a1 : Nat) (a2 : Nat) (a3 : Int32) (a4 : Int32) : Nat → Int32 → MS → Prop
  | 0, _, _ => False
  | n3_2 + 1, x1, S2 => (if 8 ≤ x1 then K (a3 + 8) S2 else jn (fun (S4 : MS) => m_carries_l3 K a1 a2 a3 a4 n3_2 (x1 + 1) S4) (fun k38_4 => (if a4 = 0 then obd (mald S2 a1 x1) (fun v5 => obd (mast S2 a2 (a3 + x1) v5) (fun S6 => k38_4 S6)) else obd (mald S2 a2 (a3 + x1)) (fun v7 => obd (mast S2 a1 x1 v7) (fun S8 => k38_4 S8)))))
theorem m_carries_l3_s (K : Int32 → MS → Prop) (a1 : Nat) (a2 : Nat) (a3 : Int32) (a4 : Int32) (n3_2 : Nat) (x1 : Int32) (S2 : MS) : m_carries_l3 K a1 a2 a3 a4 (n3_2 + 1) x1 S2 = ((if 8 ≤ x1 then K (a3 + 8) S2 else jn (fun (S4 : MS) => m_carries_l3 K a1 a2 a3 a4 n3_2 (x1 + 1) S4) (fun k38_4 => (if a4 = 0 then obd (mald S2 a1 x1) (fun v5 => obd (mast S2 a2 (a3 + x1) v5) (fun S6 => k38_4 S6)) else obd (mald S2 a2 (a3 + x1)) (fun v7 => obd (mast S2 a1 x1 v7) (fun S8 => k38_4 S8)))))) := rfl
def m_carries (a1 : Nat) (a2 : Nat) (a3 : Int32) (a4 : Int32) (S : MS) (K : Int32 → MS → Prop) : Prop := m_carries_l3 K a1 a2 a3 a4 NF 0 S
theorem iX6_carries : mInf yX6_carries cX6_carries 6 (some .int) 4 := ⟨q1792, qs57, q1793, by decide +kernel⟩
set_option maxHeartbeats 4000000 in
theorem met_carries (l : Launch) (a1 : Nat) (a2 : Nat) (a3 : Int32) (a4 : Int32) (ha1 : mInt a1 = true) (ha2 : mInt a2 = true) (S : MS) (K : Int32 → MS → Prop) (hs : m_carries a1 a2 a3 a4 S K) : mMeti l yX6_carries cX6_carries 6 0 0 S (fun ad => [.ref (ad a1), .ref (ad a2), .int a3, .int a4]) K := by
  intro D dT h ad sz
  refine mEnter (Qc := mQi D dT h ad K) (by decide) rfl (by rfl) ?_
  intro p e s m args below meth c A ls X hK hA hM hl
  have hx := X.1
  have hb := X.2.1
  have hts := X.2.2.2.2.1
  have hown := X.2.2.2.2.2.1
  have hl : lv_has ls 6 [(0, .ref h), (1, .ref (ad a1)), (2, .ref (ad a2)), (3, .int a3), (4, .int a4)] := hl
  unfold m_carries at hs
  refine lv_iconst (v := 0) hx hb dX6_carries_0 (by decide) ?_
  refine lv_istore (lv' := [(5, .int 0), (0, .ref h), (1, .ref (ad a1)), (2, .ref (ad a2)), (3, .int a3), (4, .int a4)]) hx hb dX6_carries_1 hl (by decide) rfl (fun ls hl => ?_)
  have Lm_carries_l3 : ∀ (n3_2 : Nat) (x1 : Int32) (S2 : MS) (H : Heap) (locs : List Loc) (ls : Array Slot), m_carries_l3 K a1 a2 a3 a4 n3_2 x1 S2 → mI D dT A s.heap h ad S2 H locs → lv_has ls 6 [(1, .ref (ad a1)), (2, .ref (ad a2)), (3, .int a3), (4, .int a4), (5, .int x1)] → W p l e (mRm 0 0) s m args below meth c H locs 0 0 (MQ below (mQi D dT h ad K A) args s 0 0 A) (F0 m 3 ls []) := by
    intro n3_2
    induction n3_2 with
    | zero =>
      intro x1 S2 H locs ls hs
      exact False.elim hs
    | succ n3_2 ihm_carries_l3 =>
      intro x1 S2 H locs ls hs hM hl
      rw [m_carries_l3_s] at hs
      refine lv_iload hx hb dX6_carries_3 (lv_at hl 4 rfl) ?_
      refine lv_bipush (v := 8) hx hb dX6_carries_5 (by decide) ?_
      refine lv_icmp_ge (tgt := 44) hx hb dX6_carries_7 (by decide) (fun c9 => ?_) (fun c9 => ?_)
      · replace hs := ifp c9 hs
        refine lv_iload_n hx hb dX6_carries_44 rfl (lv_at hl 2 rfl) ?_
        refine lv_bipush (v := 8) hx hb dX6_carries_45 (by decide) ?_
        refine lv_iadd hx hb dX6_carries_47 ?_
        exact m_reti X hK hM hs dX6_carries_48
      · replace hs := ifn c9 hs
        refine lv_iload hx hb dX6_carries_10 (lv_at hl 3 rfl) ?_
        obtain ⟨k38_4, hk38_4, hs⟩ := jn_ex hs
        have Ek38_4 : ∀ (S4 : MS) (H : Heap) (locs : List Loc) (ls : Array Slot), k38_4 S4 → mI D dT A s.heap h ad S4 H locs → lv_has ls 6 [(1, .ref (ad a1)), (2, .ref (ad a2)), (3, .int a3), (4, .int a4), (5, .int x1)] → W p l e (mRm 0 0) s m args below meth c H locs 0 0 (MQ below (mQi D dT h ad K A) args s 0 0 A) (F0 m 38 ls []) := by
          intro S4 H locs ls hs hM hl
          rw [hk38_4] at hs
          refine lv_iinc (v := (x1 + 1)) (lv' := [(5, .int (x1 + 1)), (1, .ref (ad a1)), (2, .ref (ad a2)), (3, .int a3), (4, .int a4)]) hx hb dX6_carries_38 hl (k := 4) rfl (congrArg (fun z => x1 + z) (show Int32.ofInt (1) = 1 by decide)) (by decide) rfl (fun ls hl => ?_)
          refine lv_goto (tgt := 3) hx hb dX6_carries_41 (by decide) ?_
          exact ihm_carries_l3 _ _ _ _ _ hs hM (lv_sub hl [1, 2, 3, 4, 0] rfl)
        refine lv_if_eq (tgt := 28) hx hb dX6_carries_12 (by decide) (fun c8 => ?_) (fun c8 => ?_)
        · replace hs := ifp c8 hs
          refine lv_aload_n hx hb dX6_carries_28 rfl (lv_at hl 1 rfl) ?_
          refine lv_iload_n hx hb dX6_carries_29 rfl (lv_at hl 2 rfl) ?_
          refine lv_iload hx hb dX6_carries_30 (lv_at hl 4 rfl) ?_
          refine lv_iadd hx hb dX6_carries_32 ?_
          refine lv_aload_n hx hb dX6_carries_33 rfl (lv_at hl 0 rfl) ?_
          refine lv_iload hx hb dX6_carries_34 (lv_at hl 4 rfl) ?_
          obtain ⟨v5, ev5, hs⟩ := hs
          refine m_iald X hK hM ha1 ev5 dX6_carries_36 ?_
          obtain ⟨S6, eS6, hs⟩ := hs
          refine m_iast X hK hM ha2 eS6 dX6_carries_37 (fun H locs hM => ?_)
          exact Ek38_4 _ _ _ _ hs hM hl
        · replace hs := ifn c8 hs
          refine lv_aload_n hx hb dX6_carries_15 rfl (lv_at hl 0 rfl) ?_
          refine lv_iload hx hb dX6_carries_16 (lv_at hl 4 rfl) ?_
          refine lv_aload_n hx hb dX6_carries_18 rfl (lv_at hl 1 rfl) ?_
          refine lv_iload_n hx hb dX6_carries_19 rfl (lv_at hl 2 rfl) ?_
          refine lv_iload hx hb dX6_carries_20 (lv_at hl 4 rfl) ?_
          refine lv_iadd hx hb dX6_carries_22 ?_
          obtain ⟨v7, ev7, hs⟩ := hs
          refine m_iald X hK hM ha2 ev7 dX6_carries_23 ?_
          obtain ⟨S8, eS8, hs⟩ := hs
          refine m_iast X hK hM ha1 eS8 dX6_carries_24 (fun H locs hM => ?_)
          refine lv_goto (tgt := 38) hx hb dX6_carries_25 (by decide) ?_
          exact Ek38_4 _ _ _ _ hs hM hl
  exact Lm_carries_l3 NF _ _ _ _ _ hs hM (lv_sub hl [2, 3, 4, 5, 0] rfl)
def m_all_l99 (a1 : Nat) (a2 : Int32) (r16 : Int32) (k142_17 : MS → Prop) : Nat → Int32 → MS → Prop
  | 0, _, _ => False
  | n99_31 + 1, x30, S31 => (if 4 ≤ x30 then k142_17 S31 else jn (fun (S33 : MS) => m_all_l99 a1 a2 r16 k142_17 n99_31 (x30 + 1) S33) (fun k136_33 => (if a2 = 0 then m_told x30 S31 (fun r35 S34 => obd (mast S34 a1 (r16 + x30) r35) (fun S36 => k136_33 S36)) else obd (mald S31 a1 (r16 + x30)) (fun v37 => m_tells x30 v37 S31 (fun S38 => k136_33 S38)))))
theorem m_all_l99_s (a1 : Nat) (a2 : Int32) (r16 : Int32) (k142_17 : MS → Prop) (n99_31 : Nat) (x30 : Int32) (S31 : MS) : m_all_l99 a1 a2 r16 k142_17 (n99_31 + 1) x30 S31 = ((if 4 ≤ x30 then k142_17 S31 else jn (fun (S33 : MS) => m_all_l99 a1 a2 r16 k142_17 n99_31 (x30 + 1) S33) (fun k136_33 => (if a2 = 0 then m_told x30 S31 (fun r35 S34 => obd (mast S34 a1 (r16 + x30) r35) (fun S36 => k136_33 S36)) else obd (mald S31 a1 (r16 + x30)) (fun v37 => m_tells x30 v37 S31 (fun S38 => k136_33 S38)))))) := rfl
def m_all (a1 : Nat) (a2 : Int32) (S : MS) (K : MS → Prop) : Prop := m_carries 11 a1 0 a2 S (fun r2 S1 => m_carries 12 a1 r2 a2 S1 (fun r4 S3 => m_carries 13 a1 r4 a2 S3 (fun r6 S5 => m_carries 14 a1 r6 a2 S5 (fun r8 S7 => m_carries 15 a1 r8 a2 S7 (fun r10 S9 => m_carries 16 a1 r10 a2 S9 (fun r12 S11 => m_carries 17 a1 r12 a2 S11 (fun r14 S13 => m_carries 18 a1 r14 a2 S13 (fun r16 S15 => jn (fun (S17 : MS) => (if a2 = 0 then obd (mast S17 a1 (r16 + 4) (S17.1 0)) (fun S19 => obd (mast S19 a1 ((r16 + 4) + 1) (S19.1 1)) (fun S20 => obd (mast S20 a1 ((r16 + 4) + 2) (S20.1 6)) (fun S21 => obd (mast S21 a1 ((r16 + 4) + 3) (S21.1 7)) (fun S22 => obd (mast S22 a1 ((r16 + 4) + 4) (S22.1 8)) (fun S23 => K S23))))) else obd (mald S17 a1 (r16 + 4)) (fun v24 => obd (mald (mset S17 0 v24) a1 ((r16 + 4) + 1)) (fun v25 => obd (mald (mset (mset S17 0 v24) 1 v25) a1 ((r16 + 4) + 2)) (fun v26 => obd (mald (mset (mset (mset S17 0 v24) 1 v25) 6 v26) a1 ((r16 + 4) + 3)) (fun v27 => obd (mald (mset (mset (mset (mset S17 0 v24) 1 v25) 6 v26) 7 v27) a1 ((r16 + 4) + 4)) (fun v28 => K (mset (mset (mset (mset (mset S17 0 v24) 1 v25) 6 v26) 7 v27) 8 v28)))))))) (fun k142_17 => m_all_l99 a1 a2 r16 k142_17 NF 0 S15)))))))))
theorem iX6_all : mInf yX6_all cX6_all 5 none 2 := ⟨q1788, qs56, q1789, by decide +kernel⟩
set_option maxHeartbeats 4000000 in
theorem met_all (l : Launch) (a1 : Nat) (a2 : Int32) (ha1 : mInt a1 = true) (S : MS) (K : MS → Prop) (hs : m_all a1 a2 S K) : mMetv l yX6_all cX6_all 5 1 25 S (fun ad => [.ref (ad a1), .int a2]) K := by
  intro D dT h ad sz
  refine mEnter (Qc := mQv D dT h ad K) (by decide) rfl (by rfl) ?_
  intro p e s m args below meth c A ls X hK hA hM hl
  have hx := X.1
  have hb := X.2.1
  have hts := X.2.2.2.2.1
  have hown := X.2.2.2.2.2.1
  have hl : lv_has ls 5 [(0, .ref h), (1, .ref (ad a1)), (2, .int a2)] := hl
  unfold m_all at hs
  refine lv_aload_n hx hb dX6_all_0 rfl (lv_at hl 0 rfl) ?_
  refine lv_aload_n hx hb dX6_all_1 rfl (lv_at hl 0 rfl) ?_
  refine m_geti (v := .ref (ad 11)) X hK hM 11 q1487 rfl rfl rfl dX6_all_2 ?_
  refine lv_aload_n hx hb dX6_all_5 rfl (lv_at hl 1 rfl) ?_
  refine lv_iconst (v := 0) hx hb dX6_all_6 (by decide) ?_
  refine lv_iload_n hx hb dX6_all_7 rfl (lv_at hl 2 rfl) ?_
  refine m_calli (rest := []) (av := fun ad => [.ref (ad 11), .ref (ad a1), .int 0, .int a2]) X hK hA hM (met_carries l 11 a1 0 a2 rfl ha1 _ _ hs) iX6_carries q1790 ⟨Nat.le_of_ble_eq_true rfl, Nat.le_of_ble_eq_true rfl⟩ rfl hl.1 rfl (Nat.le_of_ble_eq_true rfl) dX6_all_8 (fun r2 S1 H locs hs hM => ?_)
  refine lv_istore_n (lv' := [(3, .int r2), (0, .ref h), (1, .ref (ad a1)), (2, .int a2)]) hx hb dX6_all_11 rfl hl (by decide) rfl (fun ls hl => ?_)
  refine lv_aload_n hx hb dX6_all_12 rfl (lv_at hl 1 rfl) ?_
  refine lv_aload_n hx hb dX6_all_13 rfl (lv_at hl 1 rfl) ?_
  refine m_geti (v := .ref (ad 12)) X hK hM 12 q1488 rfl rfl rfl dX6_all_14 ?_
  refine lv_aload_n hx hb dX6_all_17 rfl (lv_at hl 2 rfl) ?_
  refine lv_iload_n hx hb dX6_all_18 rfl (lv_at hl 0 rfl) ?_
  refine lv_iload_n hx hb dX6_all_19 rfl (lv_at hl 3 rfl) ?_
  refine m_calli (rest := []) (av := fun ad => [.ref (ad 12), .ref (ad a1), .int r2, .int a2]) X hK hA hM (met_carries l 12 a1 r2 a2 rfl ha1 _ _ hs) iX6_carries q1790 ⟨Nat.le_of_ble_eq_true rfl, Nat.le_of_ble_eq_true rfl⟩ rfl hl.1 rfl (Nat.le_of_ble_eq_true rfl) dX6_all_20 (fun r4 S3 H locs hs hM => ?_)
  refine lv_istore_n (lv' := [(3, .int r4), (0, .ref h), (1, .ref (ad a1)), (2, .int a2)]) hx hb dX6_all_23 rfl hl (by decide) rfl (fun ls hl => ?_)
  refine lv_aload_n hx hb dX6_all_24 rfl (lv_at hl 1 rfl) ?_
  refine lv_aload_n hx hb dX6_all_25 rfl (lv_at hl 1 rfl) ?_
  refine m_geti (v := .ref (ad 13)) X hK hM 13 q1489 rfl rfl rfl dX6_all_26 ?_
  refine lv_aload_n hx hb dX6_all_29 rfl (lv_at hl 2 rfl) ?_
  refine lv_iload_n hx hb dX6_all_30 rfl (lv_at hl 0 rfl) ?_
  refine lv_iload_n hx hb dX6_all_31 rfl (lv_at hl 3 rfl) ?_
  refine m_calli (rest := []) (av := fun ad => [.ref (ad 13), .ref (ad a1), .int r4, .int a2]) X hK hA hM (met_carries l 13 a1 r4 a2 rfl ha1 _ _ hs) iX6_carries q1790 ⟨Nat.le_of_ble_eq_true rfl, Nat.le_of_ble_eq_true rfl⟩ rfl hl.1 rfl (Nat.le_of_ble_eq_true rfl) dX6_all_32 (fun r6 S5 H locs hs hM => ?_)
  refine lv_istore_n (lv' := [(3, .int r6), (0, .ref h), (1, .ref (ad a1)), (2, .int a2)]) hx hb dX6_all_35 rfl hl (by decide) rfl (fun ls hl => ?_)
  refine lv_aload_n hx hb dX6_all_36 rfl (lv_at hl 1 rfl) ?_
  refine lv_aload_n hx hb dX6_all_37 rfl (lv_at hl 1 rfl) ?_
  refine m_geti (v := .ref (ad 14)) X hK hM 14 q1490 rfl rfl rfl dX6_all_38 ?_
  refine lv_aload_n hx hb dX6_all_41 rfl (lv_at hl 2 rfl) ?_
  refine lv_iload_n hx hb dX6_all_42 rfl (lv_at hl 0 rfl) ?_
  refine lv_iload_n hx hb dX6_all_43 rfl (lv_at hl 3 rfl) ?_
  refine m_calli (rest := []) (av := fun ad => [.ref (ad 14), .ref (ad a1), .int r6, .int a2]) X hK hA hM (met_carries l 14 a1 r6 a2 rfl ha1 _ _ hs) iX6_carries q1790 ⟨Nat.le_of_ble_eq_true rfl, Nat.le_of_ble_eq_true rfl⟩ rfl hl.1 rfl (Nat.le_of_ble_eq_true rfl) dX6_all_44 (fun r8 S7 H locs hs hM => ?_)
  refine lv_istore_n (lv' := [(3, .int r8), (0, .ref h), (1, .ref (ad a1)), (2, .int a2)]) hx hb dX6_all_47 rfl hl (by decide) rfl (fun ls hl => ?_)
  refine lv_aload_n hx hb dX6_all_48 rfl (lv_at hl 1 rfl) ?_
  refine lv_aload_n hx hb dX6_all_49 rfl (lv_at hl 1 rfl) ?_
  refine m_geti (v := .ref (ad 15)) X hK hM 15 q1491 rfl rfl rfl dX6_all_50 ?_
  refine lv_aload_n hx hb dX6_all_53 rfl (lv_at hl 2 rfl) ?_
  refine lv_iload_n hx hb dX6_all_54 rfl (lv_at hl 0 rfl) ?_
  refine lv_iload_n hx hb dX6_all_55 rfl (lv_at hl 3 rfl) ?_
  refine m_calli (rest := []) (av := fun ad => [.ref (ad 15), .ref (ad a1), .int r8, .int a2]) X hK hA hM (met_carries l 15 a1 r8 a2 rfl ha1 _ _ hs) iX6_carries q1790 ⟨Nat.le_of_ble_eq_true rfl, Nat.le_of_ble_eq_true rfl⟩ rfl hl.1 rfl (Nat.le_of_ble_eq_true rfl) dX6_all_56 (fun r10 S9 H locs hs hM => ?_)
  refine lv_istore_n (lv' := [(3, .int r10), (0, .ref h), (1, .ref (ad a1)), (2, .int a2)]) hx hb dX6_all_59 rfl hl (by decide) rfl (fun ls hl => ?_)
  refine lv_aload_n hx hb dX6_all_60 rfl (lv_at hl 1 rfl) ?_
  refine lv_aload_n hx hb dX6_all_61 rfl (lv_at hl 1 rfl) ?_
  refine m_geti (v := .ref (ad 16)) X hK hM 16 q1492 rfl rfl rfl dX6_all_62 ?_
  refine lv_aload_n hx hb dX6_all_65 rfl (lv_at hl 2 rfl) ?_
  refine lv_iload_n hx hb dX6_all_66 rfl (lv_at hl 0 rfl) ?_
  refine lv_iload_n hx hb dX6_all_67 rfl (lv_at hl 3 rfl) ?_
  refine m_calli (rest := []) (av := fun ad => [.ref (ad 16), .ref (ad a1), .int r10, .int a2]) X hK hA hM (met_carries l 16 a1 r10 a2 rfl ha1 _ _ hs) iX6_carries q1790 ⟨Nat.le_of_ble_eq_true rfl, Nat.le_of_ble_eq_true rfl⟩ rfl hl.1 rfl (Nat.le_of_ble_eq_true rfl) dX6_all_68 (fun r12 S11 H locs hs hM => ?_)
  refine lv_istore_n (lv' := [(3, .int r12), (0, .ref h), (1, .ref (ad a1)), (2, .int a2)]) hx hb dX6_all_71 rfl hl (by decide) rfl (fun ls hl => ?_)
  refine lv_aload_n hx hb dX6_all_72 rfl (lv_at hl 1 rfl) ?_
  refine lv_aload_n hx hb dX6_all_73 rfl (lv_at hl 1 rfl) ?_
  refine m_geti (v := .ref (ad 17)) X hK hM 17 q1493 rfl rfl rfl dX6_all_74 ?_
  refine lv_aload_n hx hb dX6_all_77 rfl (lv_at hl 2 rfl) ?_
  refine lv_iload_n hx hb dX6_all_78 rfl (lv_at hl 0 rfl) ?_
  refine lv_iload_n hx hb dX6_all_79 rfl (lv_at hl 3 rfl) ?_
  refine m_calli (rest := []) (av := fun ad => [.ref (ad 17), .ref (ad a1), .int r12, .int a2]) X hK hA hM (met_carries l 17 a1 r12 a2 rfl ha1 _ _ hs) iX6_carries q1790 ⟨Nat.le_of_ble_eq_true rfl, Nat.le_of_ble_eq_true rfl⟩ rfl hl.1 rfl (Nat.le_of_ble_eq_true rfl) dX6_all_80 (fun r14 S13 H locs hs hM => ?_)
  refine lv_istore_n (lv' := [(3, .int r14), (0, .ref h), (1, .ref (ad a1)), (2, .int a2)]) hx hb dX6_all_83 rfl hl (by decide) rfl (fun ls hl => ?_)
  refine lv_aload_n hx hb dX6_all_84 rfl (lv_at hl 1 rfl) ?_
  refine lv_aload_n hx hb dX6_all_85 rfl (lv_at hl 1 rfl) ?_
  refine m_geti (v := .ref (ad 18)) X hK hM 18 q1494 rfl rfl rfl dX6_all_86 ?_
  refine lv_aload_n hx hb dX6_all_89 rfl (lv_at hl 2 rfl) ?_
  refine lv_iload_n hx hb dX6_all_90 rfl (lv_at hl 0 rfl) ?_
  refine lv_iload_n hx hb dX6_all_91 rfl (lv_at hl 3 rfl) ?_
  refine m_calli (rest := []) (av := fun ad => [.ref (ad 18), .ref (ad a1), .int r14, .int a2]) X hK hA hM (met_carries l 18 a1 r14 a2 rfl ha1 _ _ hs) iX6_carries q1790 ⟨Nat.le_of_ble_eq_true rfl, Nat.le_of_ble_eq_true rfl⟩ rfl hl.1 rfl (Nat.le_of_ble_eq_true rfl) dX6_all_92 (fun r16 S15 H locs hs hM => ?_)
  refine lv_istore_n (lv' := [(3, .int r16), (0, .ref h), (1, .ref (ad a1)), (2, .int a2)]) hx hb dX6_all_95 rfl hl (by decide) rfl (fun ls hl => ?_)
  refine lv_iconst (v := 0) hx hb dX6_all_96 (by decide) ?_
  refine lv_istore (lv' := [(4, .int 0), (3, .int r16), (0, .ref h), (1, .ref (ad a1)), (2, .int a2)]) hx hb dX6_all_97 hl (by decide) rfl (fun ls hl => ?_)
  obtain ⟨k142_17, hk142_17, hs⟩ := jn_ex hs
  have Ek142_17 : ∀ (S17 : MS) (H : Heap) (locs : List Loc) (ls : Array Slot), k142_17 S17 → mI D dT A s.heap h ad S17 H locs → lv_has ls 5 [(0, .ref h), (1, .ref (ad a1)), (2, .int a2), (3, .int r16)] → W p l e (mRm 1 25) s m args below meth c H locs 0 0 (MQ below (mQv D dT h ad K A) args s 0 0 A) (F0 m 142 ls []) := by
    intro S17 H locs ls hs hM hl
    rw [hk142_17] at hs
    refine lv_iinc (v := (r16 + 4)) (lv' := [(3, .int (r16 + 4)), (0, .ref h), (1, .ref (ad a1)), (2, .int a2)]) hx hb dX6_all_142 hl (k := 3) rfl (congrArg (fun z => r16 + z) (show Int32.ofInt (4) = 4 by decide)) (by decide) rfl (fun ls hl => ?_)
    refine lv_iload_n hx hb dX6_all_145 rfl (lv_at hl 3 rfl) ?_
    refine lv_if_eq (tgt := 195) hx hb dX6_all_146 (by decide) (fun c28 => ?_) (fun c28 => ?_)
    · replace hs := ifp c28 hs
      refine lv_aload_n hx hb dX6_all_195 rfl (lv_at hl 2 rfl) ?_
      refine lv_iload_n hx hb dX6_all_196 rfl (lv_at hl 0 rfl) ?_
      refine lv_aload_n hx hb dX6_all_197 rfl (lv_at hl 1 rfl) ?_
      refine m_geti (v := .int (S17.1 0)) X hK hM 0 q1476 rfl rfl rfl dX6_all_198 ?_
      obtain ⟨S19, eS19, hs⟩ := hs
      refine m_iast X hK hM ha1 eS19 dX6_all_201 (fun H locs hM => ?_)
      refine lv_aload_n hx hb dX6_all_202 rfl (lv_at hl 2 rfl) ?_
      refine lv_iload_n hx hb dX6_all_203 rfl (lv_at hl 0 rfl) ?_
      refine lv_iconst (v := 1) hx hb dX6_all_204 (by decide) ?_
      refine lv_iadd hx hb dX6_all_205 ?_
      refine lv_aload_n hx hb dX6_all_206 rfl (lv_at hl 1 rfl) ?_
      refine m_geti (v := .int (S19.1 1)) X hK hM 1 q1477 rfl rfl rfl dX6_all_207 ?_
      obtain ⟨S20, eS20, hs⟩ := hs
      refine m_iast X hK hM ha1 eS20 dX6_all_210 (fun H locs hM => ?_)
      refine lv_aload_n hx hb dX6_all_211 rfl (lv_at hl 2 rfl) ?_
      refine lv_iload_n hx hb dX6_all_212 rfl (lv_at hl 0 rfl) ?_
      refine lv_iconst (v := 2) hx hb dX6_all_213 (by decide) ?_
      refine lv_iadd hx hb dX6_all_214 ?_
      refine lv_aload_n hx hb dX6_all_215 rfl (lv_at hl 1 rfl) ?_
      refine m_geti (v := .int (S20.1 6)) X hK hM 6 q1482 rfl rfl rfl dX6_all_216 ?_
      obtain ⟨S21, eS21, hs⟩ := hs
      refine m_iast X hK hM ha1 eS21 dX6_all_219 (fun H locs hM => ?_)
      refine lv_aload_n hx hb dX6_all_220 rfl (lv_at hl 2 rfl) ?_
      refine lv_iload_n hx hb dX6_all_221 rfl (lv_at hl 0 rfl) ?_
      refine lv_iconst (v := 3) hx hb dX6_all_222 (by decide) ?_
      refine lv_iadd hx hb dX6_all_223 ?_
      refine lv_aload_n hx hb dX6_all_224 rfl (lv_at hl 1 rfl) ?_
      refine m_geti (v := .int (S21.1 7)) X hK hM 7 q1483 rfl rfl rfl dX6_all_225 ?_
      obtain ⟨S22, eS22, hs⟩ := hs
      refine m_iast X hK hM ha1 eS22 dX6_all_228 (fun H locs hM => ?_)
      refine lv_aload_n hx hb dX6_all_229 rfl (lv_at hl 2 rfl) ?_
      refine lv_iload_n hx hb dX6_all_230 rfl (lv_at hl 0 rfl) ?_
      refine lv_iconst (v := 4) hx hb dX6_all_231 (by decide) ?_
      refine lv_iadd hx hb dX6_all_232 ?_
      refine lv_aload_n hx hb dX6_all_233 rfl (lv_at hl 1 rfl) ?_
      refine m_geti (v := .int (S22.1 8)) X hK hM 8 q1484 rfl rfl rfl dX6_all_234 ?_
      obtain ⟨S23, eS23, hs⟩ := hs
      refine m_iast X hK hM ha1 eS23 dX6_all_237 (fun H locs hM => ?_)
      exact m_retv X hK hM hs dX6_all_238
    · replace hs := ifn c28 hs
      refine lv_aload_n hx hb dX6_all_149 rfl (lv_at hl 1 rfl) ?_
      refine lv_aload_n hx hb dX6_all_150 rfl (lv_at hl 2 rfl) ?_
      refine lv_iload_n hx hb dX6_all_151 rfl (lv_at hl 0 rfl) ?_
      obtain ⟨v24, ev24, hs⟩ := hs
      refine m_iald X hK hM ha1 ev24 dX6_all_152 ?_
      refine m_puti X hK hM 0 q1476 rfl rfl rfl rfl rfl rfl dX6_all_153 (fun H locs hM => ?_)
      refine lv_aload_n hx hb dX6_all_156 rfl (lv_at hl 1 rfl) ?_
      refine lv_aload_n hx hb dX6_all_157 rfl (lv_at hl 2 rfl) ?_
      refine lv_iload_n hx hb dX6_all_158 rfl (lv_at hl 0 rfl) ?_
      refine lv_iconst (v := 1) hx hb dX6_all_159 (by decide) ?_
      refine lv_iadd hx hb dX6_all_160 ?_
      obtain ⟨v25, ev25, hs⟩ := hs
      refine m_iald X hK hM ha1 ev25 dX6_all_161 ?_
      refine m_puti X hK hM 1 q1477 rfl rfl rfl rfl rfl rfl dX6_all_162 (fun H locs hM => ?_)
      refine lv_aload_n hx hb dX6_all_165 rfl (lv_at hl 1 rfl) ?_
      refine lv_aload_n hx hb dX6_all_166 rfl (lv_at hl 2 rfl) ?_
      refine lv_iload_n hx hb dX6_all_167 rfl (lv_at hl 0 rfl) ?_
      refine lv_iconst (v := 2) hx hb dX6_all_168 (by decide) ?_
      refine lv_iadd hx hb dX6_all_169 ?_
      obtain ⟨v26, ev26, hs⟩ := hs
      refine m_iald X hK hM ha1 ev26 dX6_all_170 ?_
      refine m_puti X hK hM 6 q1482 rfl rfl rfl rfl rfl rfl dX6_all_171 (fun H locs hM => ?_)
      refine lv_aload_n hx hb dX6_all_174 rfl (lv_at hl 1 rfl) ?_
      refine lv_aload_n hx hb dX6_all_175 rfl (lv_at hl 2 rfl) ?_
      refine lv_iload_n hx hb dX6_all_176 rfl (lv_at hl 0 rfl) ?_
      refine lv_iconst (v := 3) hx hb dX6_all_177 (by decide) ?_
      refine lv_iadd hx hb dX6_all_178 ?_
      obtain ⟨v27, ev27, hs⟩ := hs
      refine m_iald X hK hM ha1 ev27 dX6_all_179 ?_
      refine m_puti X hK hM 7 q1483 rfl rfl rfl rfl rfl rfl dX6_all_180 (fun H locs hM => ?_)
      refine lv_aload_n hx hb dX6_all_183 rfl (lv_at hl 1 rfl) ?_
      refine lv_aload_n hx hb dX6_all_184 rfl (lv_at hl 2 rfl) ?_
      refine lv_iload_n hx hb dX6_all_185 rfl (lv_at hl 0 rfl) ?_
      refine lv_iconst (v := 4) hx hb dX6_all_186 (by decide) ?_
      refine lv_iadd hx hb dX6_all_187 ?_
      obtain ⟨v28, ev28, hs⟩ := hs
      refine m_iald X hK hM ha1 ev28 dX6_all_188 ?_
      refine m_puti X hK hM 8 q1484 rfl rfl rfl rfl rfl rfl dX6_all_189 (fun H locs hM => ?_)
      refine lv_goto (tgt := 238) hx hb dX6_all_192 (by decide) ?_
      exact m_retv X hK hM hs dX6_all_238
  have Lm_all_l99 : ∀ (n99_31 : Nat) (x30 : Int32) (S31 : MS) (H : Heap) (locs : List Loc) (ls : Array Slot), m_all_l99 a1 a2 r16 k142_17 n99_31 x30 S31 → mI D dT A s.heap h ad S31 H locs → lv_has ls 5 [(0, .ref h), (1, .ref (ad a1)), (2, .int a2), (3, .int r16), (4, .int x30)] → W p l e (mRm 1 25) s m args below meth c H locs 0 0 (MQ below (mQv D dT h ad K A) args s 0 0 A) (F0 m 99 ls []) := by
    intro n99_31
    induction n99_31 with
    | zero =>
      intro x30 S31 H locs ls hs
      exact False.elim hs
    | succ n99_31 ihm_all_l99 =>
      intro x30 S31 H locs ls hs hM hl
      rw [m_all_l99_s] at hs
      refine lv_iload hx hb dX6_all_99 (lv_at hl 4 rfl) ?_
      refine lv_iconst (v := 4) hx hb dX6_all_101 (by decide) ?_
      refine lv_icmp_ge (tgt := 142) hx hb dX6_all_102 (by decide) (fun c39 => ?_) (fun c39 => ?_)
      · replace hs := ifp c39 hs
        exact Ek142_17 _ _ _ _ hs hM (lv_sub hl [0, 1, 2, 3] rfl)
      · replace hs := ifn c39 hs
        refine lv_iload_n hx hb dX6_all_105 rfl (lv_at hl 2 rfl) ?_
        obtain ⟨k136_33, hk136_33, hs⟩ := jn_ex hs
        have Ek136_33 : ∀ (S33 : MS) (H : Heap) (locs : List Loc) (ls : Array Slot), k136_33 S33 → mI D dT A s.heap h ad S33 H locs → lv_has ls 5 [(0, .ref h), (1, .ref (ad a1)), (2, .int a2), (3, .int r16), (4, .int x30)] → W p l e (mRm 1 25) s m args below meth c H locs 0 0 (MQ below (mQv D dT h ad K A) args s 0 0 A) (F0 m 136 ls []) := by
          intro S33 H locs ls hs hM hl
          rw [hk136_33] at hs
          refine lv_iinc (v := (x30 + 1)) (lv' := [(4, .int (x30 + 1)), (0, .ref h), (1, .ref (ad a1)), (2, .int a2), (3, .int r16)]) hx hb dX6_all_136 hl (k := 4) rfl (congrArg (fun z => x30 + z) (show Int32.ofInt (1) = 1 by decide)) (by decide) rfl (fun ls hl => ?_)
          refine lv_goto (tgt := 99) hx hb dX6_all_139 (by decide) ?_
          exact ihm_all_l99 _ _ _ _ _ hs hM (lv_sub hl [1, 2, 3, 4, 0] rfl)
        refine lv_if_eq (tgt := 124) hx hb dX6_all_106 (by decide) (fun c38 => ?_) (fun c38 => ?_)
        · replace hs := ifp c38 hs
          refine lv_aload_n hx hb dX6_all_124 rfl (lv_at hl 1 rfl) ?_
          refine lv_iload_n hx hb dX6_all_125 rfl (lv_at hl 3 rfl) ?_
          refine lv_iload hx hb dX6_all_126 (lv_at hl 4 rfl) ?_
          refine lv_iadd hx hb dX6_all_128 ?_
          refine lv_aload_n hx hb dX6_all_129 rfl (lv_at hl 0 rfl) ?_
          refine lv_iload hx hb dX6_all_130 (lv_at hl 4 rfl) ?_
          refine m_calli (rest := [.int (r16 + x30), .ref (ad a1)]) (av := fun ad => [.int x30]) X hK hA hM (met_told l x30 _ _ hs) iX6_told q1766 ⟨Nat.le_of_ble_eq_true rfl, Nat.le_of_ble_eq_true rfl⟩ rfl hl.1 rfl (Nat.le_of_ble_eq_true rfl) dX6_all_132 (fun r35 S34 H locs hs hM => ?_)
          obtain ⟨S36, eS36, hs⟩ := hs
          refine m_iast X hK hM ha1 eS36 dX6_all_135 (fun H locs hM => ?_)
          exact Ek136_33 _ _ _ _ hs hM hl
        · replace hs := ifn c38 hs
          refine lv_aload_n hx hb dX6_all_109 rfl (lv_at hl 0 rfl) ?_
          refine lv_iload hx hb dX6_all_110 (lv_at hl 4 rfl) ?_
          refine lv_aload_n hx hb dX6_all_112 rfl (lv_at hl 1 rfl) ?_
          refine lv_iload_n hx hb dX6_all_113 rfl (lv_at hl 3 rfl) ?_
          refine lv_iload hx hb dX6_all_114 (lv_at hl 4 rfl) ?_
          refine lv_iadd hx hb dX6_all_116 ?_
          obtain ⟨v37, ev37, hs⟩ := hs
          refine m_iald X hK hM ha1 ev37 dX6_all_117 ?_
          refine m_callv (rest := []) (av := fun ad => [.int x30, .int v37]) X hK hA hM (met_tells l x30 v37 _ _ hs) iX6_tells q1770 ⟨Nat.le_of_ble_eq_true rfl, Nat.le_of_ble_eq_true rfl⟩ rfl hl.1 rfl (Nat.le_of_ble_eq_true rfl) dX6_all_118 (fun S38 H locs hs hM => ?_)
          refine lv_goto (tgt := 136) hx hb dX6_all_121 (by decide) ?_
          exact Ek136_33 _ _ _ _ hs hM hl
  exact Lm_all_l99 NF _ _ _ _ _ hs hM (lv_sub hl [2, 3, 4, 1, 0] rfl)
def m_isSo (a1 : Int32) (a2 : Int32) (S : MS) (K : Int32 → MS → Prop) : Prop := (if a1 = 0 then (if a2 = 0 then (if 6 < (S.1 31) then K 0 S else K 1 S) else (if a2 = 1 then (if 9 < (S.1 31) then K 0 S else K 1 S) else (if (S.1 31) < 1 then K 0 S else (if 9 < (S.1 31) then K 0 S else K 1 S)))) else if a1 = 1 then (if 9 < (S.1 31) then K 0 S else (if a2 = 1 then K 1 S else (if (S.1 31) < 1 then K 0 S else K 1 S))) else if a1 = 2 then (if a2 = 0 then (if (S.1 0) ≤ (S.1 31) then K 0 S else K 1 S) else (if (S.1 1) ≤ (S.1 31) then K 0 S else K 1 S)) else if a1 = 3 then (if a2 = 0 then (if (S.1 0) ≤ (S.1 31) then K 0 S else K 1 S) else (if 99 < (S.1 31) then K 0 S else K 1 S)) else m_isAsked (a1 - 4) (S.1 31) S (fun r18 S17 => K r18 S17))
theorem iX6_isSo : mInf yX6_isSo cX6_isSo 3 (some .boolean) 2 := ⟨q1820, qs64, q1821, by decide +kernel⟩
set_option maxHeartbeats 4000000 in
theorem met_isSo (l : Launch) (a1 : Int32) (a2 : Int32) (S : MS) (K : Int32 → MS → Prop) (hs : m_isSo a1 a2 S K) : mMetz l yX6_isSo cX6_isSo 3 1 22 S (fun ad => [.int a1, .int a2]) K := by
  intro D dT h ad sz
  refine mEnter (Qc := mQz D dT h ad K) (by decide) rfl (by rfl) ?_
  intro p e s m args below meth c A ls X hK hA hM hl
  have hx := X.1
  have hb := X.2.1
  have hts := X.2.2.2.2.1
  have hown := X.2.2.2.2.2.1
  have hl : lv_has ls 3 [(0, .ref h), (1, .int a1), (2, .int a2)] := hl
  unfold m_isSo at hs
  refine lv_iload_n hx hb dX6_isSo_0 rfl (lv_at hl 1 rfl) ?_
  by_cases c0_0 : a1 = 0
  · replace hs := ifp c0_0 hs
    refine lv_tableIn (tgt := 32) hx hb dX6_isSo_1 (by rw [c0_0]; decide) (by rw [c0_0]; decide) (by rw [c0_0]; rfl) (by decide) ?_
    refine lv_iload_n hx hb dX6_isSo_32 rfl (lv_at hl 2 rfl) ?_
    refine lv_if_ne (tgt := 53) hx hb dX6_isSo_33 (by decide) (fun c6 => ?_) (fun c6 => ?_)
    · replace hs := ifn c6 hs
      refine lv_iload_n hx hb dX6_isSo_53 rfl (lv_at hl 2 rfl) ?_
      refine lv_iconst (v := 1) hx hb dX6_isSo_54 (by decide) ?_
      refine lv_icmp_ne (tgt := 75) hx hb dX6_isSo_55 (by decide) (fun c4 => ?_) (fun c4 => ?_)
      · replace hs := ifn c4 hs
        refine lv_aload_n hx hb dX6_isSo_75 rfl (lv_at hl 0 rfl) ?_
        refine m_geti (v := .int (S.1 31)) X hK hM 31 q1507 rfl rfl rfl dX6_isSo_76 ?_
        refine lv_iconst (v := 1) hx hb dX6_isSo_79 (by decide) ?_
        refine lv_icmp_lt (tgt := 96) hx hb dX6_isSo_80 (by decide) (fun c2 => ?_) (fun c2 => ?_)
        · replace hs := ifp c2 hs
          refine lv_iconst (v := 0) hx hb dX6_isSo_96 (by decide) ?_
          exact m_retz X hK hM isB0 hs dX6_isSo_97
        · replace hs := ifn c2 hs
          refine lv_aload_n hx hb dX6_isSo_83 rfl (lv_at hl 0 rfl) ?_
          refine m_geti (v := .int (S.1 31)) X hK hM 31 q1507 rfl rfl rfl dX6_isSo_84 ?_
          refine lv_bipush (v := 9) hx hb dX6_isSo_87 (by decide) ?_
          refine lv_icmp_gt (tgt := 96) hx hb dX6_isSo_89 (by decide) (fun c1 => ?_) (fun c1 => ?_)
          · replace hs := ifp c1 hs
            refine lv_iconst (v := 0) hx hb dX6_isSo_96 (by decide) ?_
            exact m_retz X hK hM isB0 hs dX6_isSo_97
          · replace hs := ifn c1 hs
            refine lv_iconst (v := 1) hx hb dX6_isSo_92 (by decide) ?_
            refine lv_goto (tgt := 97) hx hb dX6_isSo_93 (by decide) ?_
            exact m_retz X hK hM isB1 hs dX6_isSo_97
      · replace hs := ifp c4 hs
        refine lv_aload_n hx hb dX6_isSo_58 rfl (lv_at hl 0 rfl) ?_
        refine m_geti (v := .int (S.1 31)) X hK hM 31 q1507 rfl rfl rfl dX6_isSo_59 ?_
        refine lv_bipush (v := 9) hx hb dX6_isSo_62 (by decide) ?_
        refine lv_icmp_gt (tgt := 71) hx hb dX6_isSo_64 (by decide) (fun c3 => ?_) (fun c3 => ?_)
        · replace hs := ifp c3 hs
          refine lv_iconst (v := 0) hx hb dX6_isSo_71 (by decide) ?_
          refine lv_goto (tgt := 97) hx hb dX6_isSo_72 (by decide) ?_
          exact m_retz X hK hM isB0 hs dX6_isSo_97
        · replace hs := ifn c3 hs
          refine lv_iconst (v := 1) hx hb dX6_isSo_67 (by decide) ?_
          refine lv_goto (tgt := 97) hx hb dX6_isSo_68 (by decide) ?_
          exact m_retz X hK hM isB1 hs dX6_isSo_97
    · replace hs := ifp c6 hs
      refine lv_aload_n hx hb dX6_isSo_36 rfl (lv_at hl 0 rfl) ?_
      refine m_geti (v := .int (S.1 31)) X hK hM 31 q1507 rfl rfl rfl dX6_isSo_37 ?_
      refine lv_bipush (v := 6) hx hb dX6_isSo_40 (by decide) ?_
      refine lv_icmp_gt (tgt := 49) hx hb dX6_isSo_42 (by decide) (fun c5 => ?_) (fun c5 => ?_)
      · replace hs := ifp c5 hs
        refine lv_iconst (v := 0) hx hb dX6_isSo_49 (by decide) ?_
        refine lv_goto (tgt := 97) hx hb dX6_isSo_50 (by decide) ?_
        exact m_retz X hK hM isB0 hs dX6_isSo_97
      · replace hs := ifn c5 hs
        refine lv_iconst (v := 1) hx hb dX6_isSo_45 (by decide) ?_
        refine lv_goto (tgt := 97) hx hb dX6_isSo_46 (by decide) ?_
        exact m_retz X hK hM isB1 hs dX6_isSo_97
  · replace hs := ifn c0_0 hs
    by_cases c0_1 : a1 = 1
    · replace hs := ifp c0_1 hs
      refine lv_tableIn (tgt := 98) hx hb dX6_isSo_1 (by rw [c0_1]; decide) (by rw [c0_1]; decide) (by rw [c0_1]; rfl) (by decide) ?_
      refine lv_aload_n hx hb dX6_isSo_98 rfl (lv_at hl 0 rfl) ?_
      refine m_geti (v := .int (S.1 31)) X hK hM 31 q1507 rfl rfl rfl dX6_isSo_99 ?_
      refine lv_bipush (v := 9) hx hb dX6_isSo_102 (by decide) ?_
      refine lv_icmp_gt (tgt := 124) hx hb dX6_isSo_104 (by decide) (fun c9 => ?_) (fun c9 => ?_)
      · replace hs := ifp c9 hs
        refine lv_iconst (v := 0) hx hb dX6_isSo_124 (by decide) ?_
        exact m_retz X hK hM isB0 hs dX6_isSo_125
      · replace hs := ifn c9 hs
        refine lv_iload_n hx hb dX6_isSo_107 rfl (lv_at hl 2 rfl) ?_
        refine lv_iconst (v := 1) hx hb dX6_isSo_108 (by decide) ?_
        refine lv_icmp_eq (tgt := 120) hx hb dX6_isSo_109 (by decide) (fun c8 => ?_) (fun c8 => ?_)
        · replace hs := ifp c8 hs
          refine lv_iconst (v := 1) hx hb dX6_isSo_120 (by decide) ?_
          refine lv_goto (tgt := 125) hx hb dX6_isSo_121 (by decide) ?_
          exact m_retz X hK hM isB1 hs dX6_isSo_125
        · replace hs := ifn c8 hs
          refine lv_aload_n hx hb dX6_isSo_112 rfl (lv_at hl 0 rfl) ?_
          refine m_geti (v := .int (S.1 31)) X hK hM 31 q1507 rfl rfl rfl dX6_isSo_113 ?_
          refine lv_iconst (v := 1) hx hb dX6_isSo_116 (by decide) ?_
          refine lv_icmp_lt (tgt := 124) hx hb dX6_isSo_117 (by decide) (fun c7 => ?_) (fun c7 => ?_)
          · replace hs := ifp c7 hs
            refine lv_iconst (v := 0) hx hb dX6_isSo_124 (by decide) ?_
            exact m_retz X hK hM isB0 hs dX6_isSo_125
          · replace hs := ifn c7 hs
            refine lv_iconst (v := 1) hx hb dX6_isSo_120 (by decide) ?_
            refine lv_goto (tgt := 125) hx hb dX6_isSo_121 (by decide) ?_
            exact m_retz X hK hM isB1 hs dX6_isSo_125
    · replace hs := ifn c0_1 hs
      by_cases c0_2 : a1 = 2
      · replace hs := ifp c0_2 hs
        refine lv_tableIn (tgt := 126) hx hb dX6_isSo_1 (by rw [c0_2]; decide) (by rw [c0_2]; decide) (by rw [c0_2]; rfl) (by decide) ?_
        refine lv_aload_n hx hb dX6_isSo_126 rfl (lv_at hl 0 rfl) ?_
        refine m_geti (v := .int (S.1 31)) X hK hM 31 q1507 rfl rfl rfl dX6_isSo_127 ?_
        refine lv_iload_n hx hb dX6_isSo_130 rfl (lv_at hl 2 rfl) ?_
        refine lv_if_ne (tgt := 141) hx hb dX6_isSo_131 (by decide) (fun c12 => ?_) (fun c12 => ?_)
        · replace hs := ifn c12 hs
          refine lv_aload_n hx hb dX6_isSo_141 rfl (lv_at hl 0 rfl) ?_
          refine m_geti (v := .int (S.1 1)) X hK hM 1 q1477 rfl rfl rfl dX6_isSo_142 ?_
          refine lv_icmp_ge (tgt := 152) hx hb dX6_isSo_145 (by decide) (fun c10 => ?_) (fun c10 => ?_)
          · replace hs := ifp c10 hs
            refine lv_iconst (v := 0) hx hb dX6_isSo_152 (by decide) ?_
            exact m_retz X hK hM isB0 hs dX6_isSo_153
          · replace hs := ifn c10 hs
            refine lv_iconst (v := 1) hx hb dX6_isSo_148 (by decide) ?_
            refine lv_goto (tgt := 153) hx hb dX6_isSo_149 (by decide) ?_
            exact m_retz X hK hM isB1 hs dX6_isSo_153
        · replace hs := ifp c12 hs
          refine lv_aload_n hx hb dX6_isSo_134 rfl (lv_at hl 0 rfl) ?_
          refine m_geti (v := .int (S.1 0)) X hK hM 0 q1476 rfl rfl rfl dX6_isSo_135 ?_
          refine lv_goto (tgt := 145) hx hb dX6_isSo_138 (by decide) ?_
          refine lv_icmp_ge (tgt := 152) hx hb dX6_isSo_145 (by decide) (fun c11 => ?_) (fun c11 => ?_)
          · replace hs := ifp c11 hs
            refine lv_iconst (v := 0) hx hb dX6_isSo_152 (by decide) ?_
            exact m_retz X hK hM isB0 hs dX6_isSo_153
          · replace hs := ifn c11 hs
            refine lv_iconst (v := 1) hx hb dX6_isSo_148 (by decide) ?_
            refine lv_goto (tgt := 153) hx hb dX6_isSo_149 (by decide) ?_
            exact m_retz X hK hM isB1 hs dX6_isSo_153
      · replace hs := ifn c0_2 hs
        by_cases c0_3 : a1 = 3
        · replace hs := ifp c0_3 hs
          refine lv_tableIn (tgt := 154) hx hb dX6_isSo_1 (by rw [c0_3]; decide) (by rw [c0_3]; decide) (by rw [c0_3]; rfl) (by decide) ?_
          refine lv_iload_n hx hb dX6_isSo_154 rfl (lv_at hl 2 rfl) ?_
          refine lv_if_ne (tgt := 177) hx hb dX6_isSo_155 (by decide) (fun c15 => ?_) (fun c15 => ?_)
          · replace hs := ifn c15 hs
            refine lv_aload_n hx hb dX6_isSo_177 rfl (lv_at hl 0 rfl) ?_
            refine m_geti (v := .int (S.1 31)) X hK hM 31 q1507 rfl rfl rfl dX6_isSo_178 ?_
            refine lv_bipush (v := 99) hx hb dX6_isSo_181 (by decide) ?_
            refine lv_icmp_gt (tgt := 190) hx hb dX6_isSo_183 (by decide) (fun c13 => ?_) (fun c13 => ?_)
            · replace hs := ifp c13 hs
              refine lv_iconst (v := 0) hx hb dX6_isSo_190 (by decide) ?_
              exact m_retz X hK hM isB0 hs dX6_isSo_191
            · replace hs := ifn c13 hs
              refine lv_iconst (v := 1) hx hb dX6_isSo_186 (by decide) ?_
              refine lv_goto (tgt := 191) hx hb dX6_isSo_187 (by decide) ?_
              exact m_retz X hK hM isB1 hs dX6_isSo_191
          · replace hs := ifp c15 hs
            refine lv_aload_n hx hb dX6_isSo_158 rfl (lv_at hl 0 rfl) ?_
            refine m_geti (v := .int (S.1 31)) X hK hM 31 q1507 rfl rfl rfl dX6_isSo_159 ?_
            refine lv_aload_n hx hb dX6_isSo_162 rfl (lv_at hl 0 rfl) ?_
            refine m_geti (v := .int (S.1 0)) X hK hM 0 q1476 rfl rfl rfl dX6_isSo_163 ?_
            refine lv_icmp_ge (tgt := 173) hx hb dX6_isSo_166 (by decide) (fun c14 => ?_) (fun c14 => ?_)
            · replace hs := ifp c14 hs
              refine lv_iconst (v := 0) hx hb dX6_isSo_173 (by decide) ?_
              refine lv_goto (tgt := 191) hx hb dX6_isSo_174 (by decide) ?_
              exact m_retz X hK hM isB0 hs dX6_isSo_191
            · replace hs := ifn c14 hs
              refine lv_iconst (v := 1) hx hb dX6_isSo_169 (by decide) ?_
              refine lv_goto (tgt := 191) hx hb dX6_isSo_170 (by decide) ?_
              exact m_retz X hK hM isB1 hs dX6_isSo_191
        · replace hs := ifn c0_3 hs
          refine lv_tableOut (tgt := 192) hx hb dX6_isSo_1 (sw_out (fun k h1 h2 => by
            have h3 : k = 0 ∨ k = 1 ∨ k = 2 ∨ k = 3 := by omega
            rcases h3 with rfl | rfl | rfl | rfl
            · exact lv_neT c0_0 rfl
            · exact lv_neT c0_1 rfl
            · exact lv_neT c0_2 rfl
            · exact lv_neT c0_3 rfl
            )) (by decide) ?_
          refine lv_aload_n hx hb dX6_isSo_192 rfl (lv_at hl 0 rfl) ?_
          refine lv_iload_n hx hb dX6_isSo_193 rfl (lv_at hl 1 rfl) ?_
          refine lv_iconst (v := 4) hx hb dX6_isSo_194 (by decide) ?_
          refine lv_isub hx hb dX6_isSo_195 ?_
          refine lv_aload_n hx hb dX6_isSo_196 rfl (lv_at hl 0 rfl) ?_
          refine m_geti (v := .int (S.1 31)) X hK hM 31 q1507 rfl rfl rfl dX6_isSo_197 ?_
          refine m_callz (rest := []) (av := fun ad => [.int (a1 - 4), .int (S.1 31)]) X hK hA hM (met_isAsked l (a1 - 4) (S.1 31) _ _ hs) iX6_isAsked q1762 ⟨Nat.le_of_ble_eq_true rfl, Nat.le_of_ble_eq_true rfl⟩ rfl hl.1 rfl (Nat.le_of_ble_eq_true rfl) dX6_isSo_200 (fun r18 S17 H locs br18 hs hM => ?_)
          exact m_retz X hK hM br18 hs dX6_isSo_203
def m_isDigit (S : MS) (K : Int32 → MS → Prop) : Prop := (if (S.1 30) ≤ (S.1 29) then K 0 S else obd (mlld S 23 ((S.1 28) + (S.1 29))) (fun v1 => (if ((v1 : Int64).toInt32) < 48 then K 0 S else obd (mlld S 23 ((S.1 28) + (S.1 29))) (fun v2 => (if 57 < ((v2 : Int64).toInt32) then K 0 S else K 1 S)))))
theorem iX6_isDigit : mInf yX6_isDigit cX6_isDigit 1 (some .boolean) 0 := ⟨q1816, qs63, q1817, by decide +kernel⟩
set_option maxHeartbeats 4000000 in
theorem met_isDigit (l : Launch)  (S : MS) (K : Int32 → MS → Prop) (hs : m_isDigit  S K) : mMetz l yX6_isDigit cX6_isDigit 1 0 0 S (fun ad => []) K := by
  intro D dT h ad sz
  refine mEnter (Qc := mQz D dT h ad K) (by decide) rfl (by rfl) ?_
  intro p e s m args below meth c A ls X hK hA hM hl
  have hx := X.1
  have hb := X.2.1
  have hts := X.2.2.2.2.1
  have hown := X.2.2.2.2.2.1
  have hl : lv_has ls 1 [(0, .ref h)] := hl
  unfold m_isDigit at hs
  refine lv_aload_n hx hb dX6_isDigit_0 rfl (lv_at hl 0 rfl) ?_
  refine m_geti (v := .int (S.1 29)) X hK hM 29 q1505 rfl rfl rfl dX6_isDigit_1 ?_
  refine lv_aload_n hx hb dX6_isDigit_4 rfl (lv_at hl 0 rfl) ?_
  refine m_geti (v := .int (S.1 30)) X hK hM 30 q1506 rfl rfl rfl dX6_isDigit_5 ?_
  refine lv_icmp_ge (tgt := 55) hx hb dX6_isDigit_8 (by decide) (fun c4 => ?_) (fun c4 => ?_)
  · replace hs := ifp c4 hs
    refine lv_iconst (v := 0) hx hb dX6_isDigit_55 (by decide) ?_
    exact m_retz X hK hM isB0 hs dX6_isDigit_56
  · replace hs := ifn c4 hs
    refine lv_aload_n hx hb dX6_isDigit_11 rfl (lv_at hl 0 rfl) ?_
    refine m_geti (v := .ref (ad 23)) X hK hM 23 q1499 rfl rfl rfl dX6_isDigit_12 ?_
    refine lv_aload_n hx hb dX6_isDigit_15 rfl (lv_at hl 0 rfl) ?_
    refine m_geti (v := .int (S.1 28)) X hK hM 28 q1504 rfl rfl rfl dX6_isDigit_16 ?_
    refine lv_aload_n hx hb dX6_isDigit_19 rfl (lv_at hl 0 rfl) ?_
    refine m_geti (v := .int (S.1 29)) X hK hM 29 q1505 rfl rfl rfl dX6_isDigit_20 ?_
    refine lv_iadd hx hb dX6_isDigit_23 ?_
    obtain ⟨v1, ev1, hs⟩ := hs
    refine m_lald X hK hM rfl ev1 dX6_isDigit_24 ?_
    refine lv_l2i (v := ((v1 : Int64).toInt32)) hx hb dX6_isDigit_25 rfl ?_
    refine lv_bipush (v := 48) hx hb dX6_isDigit_26 (by decide) ?_
    refine lv_icmp_lt (tgt := 55) hx hb dX6_isDigit_28 (by decide) (fun c3 => ?_) (fun c3 => ?_)
    · replace hs := ifp c3 hs
      refine lv_iconst (v := 0) hx hb dX6_isDigit_55 (by decide) ?_
      exact m_retz X hK hM isB0 hs dX6_isDigit_56
    · replace hs := ifn c3 hs
      refine lv_aload_n hx hb dX6_isDigit_31 rfl (lv_at hl 0 rfl) ?_
      refine m_geti (v := .ref (ad 23)) X hK hM 23 q1499 rfl rfl rfl dX6_isDigit_32 ?_
      refine lv_aload_n hx hb dX6_isDigit_35 rfl (lv_at hl 0 rfl) ?_
      refine m_geti (v := .int (S.1 28)) X hK hM 28 q1504 rfl rfl rfl dX6_isDigit_36 ?_
      refine lv_aload_n hx hb dX6_isDigit_39 rfl (lv_at hl 0 rfl) ?_
      refine m_geti (v := .int (S.1 29)) X hK hM 29 q1505 rfl rfl rfl dX6_isDigit_40 ?_
      refine lv_iadd hx hb dX6_isDigit_43 ?_
      obtain ⟨v2, ev2, hs⟩ := hs
      refine m_lald X hK hM rfl ev2 dX6_isDigit_44 ?_
      refine lv_l2i (v := ((v2 : Int64).toInt32)) hx hb dX6_isDigit_45 rfl ?_
      refine lv_bipush (v := 57) hx hb dX6_isDigit_46 (by decide) ?_
      refine lv_icmp_gt (tgt := 55) hx hb dX6_isDigit_48 (by decide) (fun c2 => ?_) (fun c2 => ?_)
      · replace hs := ifp c2 hs
        refine lv_iconst (v := 0) hx hb dX6_isDigit_55 (by decide) ?_
        exact m_retz X hK hM isB0 hs dX6_isDigit_56
      · replace hs := ifn c2 hs
        refine lv_iconst (v := 1) hx hb dX6_isDigit_51 (by decide) ?_
        refine lv_goto (tgt := 56) hx hb dX6_isDigit_52 (by decide) ?_
        exact m_retz X hK hM isB1 hs dX6_isDigit_56
def m_wrong (a1 : Int32) (S : MS) (K : Int32 → MS → Prop) : Prop := K 0 (mset S 32 a1)
theorem iX6_wrong : mInf yX6_wrong cX6_wrong 2 (some .boolean) 1 := ⟨q1804, qs60, q1805, by decide +kernel⟩
set_option maxHeartbeats 4000000 in
theorem met_wrong (l : Launch) (a1 : Int32) (S : MS) (K : Int32 → MS → Prop) (hs : m_wrong a1 S K) : mMetz l yX6_wrong cX6_wrong 2 0 0 S (fun ad => [.int a1]) K := by
  intro D dT h ad sz
  refine mEnter (Qc := mQz D dT h ad K) (by decide) rfl (by rfl) ?_
  intro p e s m args below meth c A ls X hK hA hM hl
  have hx := X.1
  have hb := X.2.1
  have hts := X.2.2.2.2.1
  have hown := X.2.2.2.2.2.1
  have hl : lv_has ls 2 [(0, .ref h), (1, .int a1)] := hl
  unfold m_wrong at hs
  refine lv_aload_n hx hb dX6_wrong_0 rfl (lv_at hl 0 rfl) ?_
  refine lv_iload_n hx hb dX6_wrong_1 rfl (lv_at hl 1 rfl) ?_
  refine m_puti X hK hM 32 q1508 rfl rfl rfl rfl rfl rfl dX6_wrong_2 (fun H locs hM => ?_)
  refine lv_iconst (v := 0) hx hb dX6_wrong_5 (by decide) ?_
  exact m_retz X hK hM isB0 hs dX6_wrong_6
def m_reads_l23 (K : Int32 → MS → Prop) : Nat → Int32 → MS → Prop
  | 0, _, _ => False
  | n23_4 + 1, x3, S4 => (if 3 ≤ x3 then K 1 S4 else m_isDigit  S4 (fun r7 S6 => (if r7 = 0 then K 1 S6 else obd (mlld S6 23 ((S6.1 28) + (S6.1 29))) (fun v8 => m_reads_l23 K n23_4 (x3 + 1) (mset (mset S6 31 (((10 * (S6.1 31)) + ((v8 : Int64).toInt32)) - 48)) 29 ((S6.1 29) + 1))))))
theorem m_reads_l23_s (K : Int32 → MS → Prop) (n23_4 : Nat) (x3 : Int32) (S4 : MS) : m_reads_l23 K (n23_4 + 1) x3 S4 = ((if 3 ≤ x3 then K 1 S4 else m_isDigit  S4 (fun r7 S6 => (if r7 = 0 then K 1 S6 else obd (mlld S6 23 ((S6.1 28) + (S6.1 29))) (fun v8 => m_reads_l23 K n23_4 (x3 + 1) (mset (mset S6 31 (((10 * (S6.1 31)) + ((v8 : Int64).toInt32)) - 48)) 29 ((S6.1 29) + 1))))))) := rfl
def m_reads (S : MS) (K : Int32 → MS → Prop) : Prop := m_isDigit  (mset S 31 0) (fun r2 S1 => (if r2 = 0 then m_wrong (S1.1 29) S1 (fun r12 S11 => K r12 S11) else m_reads_l23 K NF 0 S1))
theorem iX6_reads : mInf yX6_reads cX6_reads 2 (some .boolean) 0 := ⟨q1812, qs62, q1813, by decide +kernel⟩
set_option maxHeartbeats 4000000 in
theorem met_reads (l : Launch)  (S : MS) (K : Int32 → MS → Prop) (hs : m_reads  S K) : mMetz l yX6_reads cX6_reads 2 1 21 S (fun ad => []) K := by
  intro D dT h ad sz
  refine mEnter (Qc := mQz D dT h ad K) (by decide) rfl (by rfl) ?_
  intro p e s m args below meth c A ls X hK hA hM hl
  have hx := X.1
  have hb := X.2.1
  have hts := X.2.2.2.2.1
  have hown := X.2.2.2.2.2.1
  have hl : lv_has ls 2 [(0, .ref h)] := hl
  unfold m_reads at hs
  refine lv_aload_n hx hb dX6_reads_0 rfl (lv_at hl 0 rfl) ?_
  refine lv_iconst (v := 0) hx hb dX6_reads_1 (by decide) ?_
  refine m_puti X hK hM 31 q1507 rfl rfl rfl rfl rfl rfl dX6_reads_2 (fun H locs hM => ?_)
  refine lv_aload_n hx hb dX6_reads_5 rfl (lv_at hl 0 rfl) ?_
  refine m_callz (rest := []) (av := fun ad => []) X hK hA hM (met_isDigit l  _ _ hs) iX6_isDigit q1814 ⟨Nat.le_of_ble_eq_true rfl, Nat.le_of_ble_eq_true rfl⟩ rfl hl.1 rfl (Nat.le_of_ble_eq_true rfl) dX6_reads_6 (fun r2 S1 H locs br2 hs hM => ?_)
  refine lv_if_ne (tgt := 21) hx hb dX6_reads_9 (by decide) (fun c12 => ?_) (fun c12 => ?_)
  · replace hs := ifn c12 hs
    refine lv_iconst (v := 0) hx hb dX6_reads_21 (by decide) ?_
    refine lv_istore_n (lv' := [(1, .int 0), (0, .ref h)]) hx hb dX6_reads_22 rfl hl (by decide) rfl (fun ls hl => ?_)
    have Lm_reads_l23 : ∀ (n23_4 : Nat) (x3 : Int32) (S4 : MS) (H : Heap) (locs : List Loc) (ls : Array Slot), m_reads_l23 K n23_4 x3 S4 → mI D dT A s.heap h ad S4 H locs → lv_has ls 2 [(0, .ref h), (1, .int x3)] → W p l e (mRm 1 21) s m args below meth c H locs 0 0 (MQ below (mQz D dT h ad K A) args s 0 0 A) (F0 m 23 ls []) := by
      intro n23_4
      induction n23_4 with
      | zero =>
        intro x3 S4 H locs ls hs
        exact False.elim hs
      | succ n23_4 ihm_reads_l23 =>
        intro x3 S4 H locs ls hs hM hl
        rw [m_reads_l23_s] at hs
        refine lv_iload_n hx hb dX6_reads_23 rfl (lv_at hl 1 rfl) ?_
        refine lv_iconst (v := 3) hx hb dX6_reads_24 (by decide) ?_
        refine lv_icmp_ge (tgt := 81) hx hb dX6_reads_25 (by decide) (fun c9 => ?_) (fun c9 => ?_)
        · replace hs := ifp c9 hs
          refine lv_iconst (v := 1) hx hb dX6_reads_81 (by decide) ?_
          exact m_retz X hK hM isB1 hs dX6_reads_82
        · replace hs := ifn c9 hs
          refine lv_aload_n hx hb dX6_reads_28 rfl (lv_at hl 0 rfl) ?_
          refine m_callz (rest := []) (av := fun ad => []) X hK hA hM (met_isDigit l  _ _ hs) iX6_isDigit q1814 ⟨Nat.le_of_ble_eq_true rfl, Nat.le_of_ble_eq_true rfl⟩ rfl hl.1 rfl (Nat.le_of_ble_eq_true rfl) dX6_reads_29 (fun r7 S6 H locs br7 hs hM => ?_)
          refine lv_if_eq (tgt := 81) hx hb dX6_reads_32 (by decide) (fun c8 => ?_) (fun c8 => ?_)
          · replace hs := ifp c8 hs
            refine lv_iconst (v := 1) hx hb dX6_reads_81 (by decide) ?_
            exact m_retz X hK hM isB1 hs dX6_reads_82
          · replace hs := ifn c8 hs
            refine lv_aload_n hx hb dX6_reads_35 rfl (lv_at hl 0 rfl) ?_
            refine lv_bipush (v := 10) hx hb dX6_reads_36 (by decide) ?_
            refine lv_aload_n hx hb dX6_reads_38 rfl (lv_at hl 0 rfl) ?_
            refine m_geti (v := .int (S6.1 31)) X hK hM 31 q1507 rfl rfl rfl dX6_reads_39 ?_
            refine lv_imul hx hb dX6_reads_42 ?_
            refine lv_aload_n hx hb dX6_reads_43 rfl (lv_at hl 0 rfl) ?_
            refine m_geti (v := .ref (ad 23)) X hK hM 23 q1499 rfl rfl rfl dX6_reads_44 ?_
            refine lv_aload_n hx hb dX6_reads_47 rfl (lv_at hl 0 rfl) ?_
            refine m_geti (v := .int (S6.1 28)) X hK hM 28 q1504 rfl rfl rfl dX6_reads_48 ?_
            refine lv_aload_n hx hb dX6_reads_51 rfl (lv_at hl 0 rfl) ?_
            refine m_geti (v := .int (S6.1 29)) X hK hM 29 q1505 rfl rfl rfl dX6_reads_52 ?_
            refine lv_iadd hx hb dX6_reads_55 ?_
            obtain ⟨v8, ev8, hs⟩ := hs
            refine m_lald X hK hM rfl ev8 dX6_reads_56 ?_
            refine lv_l2i (v := ((v8 : Int64).toInt32)) hx hb dX6_reads_57 rfl ?_
            refine lv_iadd hx hb dX6_reads_58 ?_
            refine lv_bipush (v := 48) hx hb dX6_reads_59 (by decide) ?_
            refine lv_isub hx hb dX6_reads_61 ?_
            refine m_puti X hK hM 31 q1507 rfl rfl rfl rfl rfl rfl dX6_reads_62 (fun H locs hM => ?_)
            refine lv_aload_n hx hb dX6_reads_65 rfl (lv_at hl 0 rfl) ?_
            refine lv_dup hx hb dX6_reads_66 rfl ?_
            refine m_geti (v := .int (S6.1 29)) X hK hM 29 q1505 rfl rfl rfl dX6_reads_67 ?_
            refine lv_iconst (v := 1) hx hb dX6_reads_70 (by decide) ?_
            refine lv_iadd hx hb dX6_reads_71 ?_
            refine m_puti X hK hM 29 q1505 rfl rfl rfl rfl rfl rfl dX6_reads_72 (fun H locs hM => ?_)
            refine lv_iinc (v := (x3 + 1)) (lv' := [(1, .int (x3 + 1)), (0, .ref h)]) hx hb dX6_reads_75 hl (k := 1) rfl (congrArg (fun z => x3 + z) (show Int32.ofInt (1) = 1 by decide)) (by decide) rfl (fun ls hl => ?_)
            refine lv_goto (tgt := 23) hx hb dX6_reads_78 (by decide) ?_
            exact ihm_reads_l23 _ _ _ _ _ hs hM (lv_sub hl [1, 0] rfl)
    exact Lm_reads_l23 NF _ _ _ _ _ hs hM (lv_sub hl [1, 0] rfl)
  · replace hs := ifp c12 hs
    refine lv_aload_n hx hb dX6_reads_12 rfl (lv_at hl 0 rfl) ?_
    refine lv_aload_n hx hb dX6_reads_13 rfl (lv_at hl 0 rfl) ?_
    refine m_geti (v := .int (S1.1 29)) X hK hM 29 q1505 rfl rfl rfl dX6_reads_14 ?_
    refine m_callz (rest := []) (av := fun ad => [.int (S1.1 29)]) X hK hA hM (met_wrong l (S1.1 29) _ _ hs) iX6_wrong q1802 ⟨Nat.le_of_ble_eq_true rfl, Nat.le_of_ble_eq_true rfl⟩ rfl hl.1 rfl (Nat.le_of_ble_eq_true rfl) dX6_reads_17 (fun r12 S11 H locs br12 hs hM => ?_)
    exact m_retz X hK hM br12 hs dX6_reads_20
def m_stands_l37 (S : MS) (k86_3 : Int32 → Prop) : Nat → Int32 → Int32 → Prop
  | 0, _, _ => False
  | n37_8 + 1, x7, x8 => obd (mald S 25 x7) (fun v10 => (if v10 ≤ 32 then k86_3 x7 else (if (S.1 30) ≤ x8 then k86_3 x7 else obd (mlld S 23 ((S.1 28) + x8)) (fun v11 => obd (mald S 25 x7) (fun v12 => (if ((v11 : Int64).toInt32) = v12 then m_stands_l37 S k86_3 n37_8 (x7 + 1) (x8 + 1) else k86_3 x7))))))
theorem m_stands_l37_s (S : MS) (k86_3 : Int32 → Prop) (n37_8 : Nat) (x7 : Int32) (x8 : Int32) : m_stands_l37 S k86_3 (n37_8 + 1) x7 x8 = (obd (mald S 25 x7) (fun v10 => (if v10 ≤ 32 then k86_3 x7 else (if (S.1 30) ≤ x8 then k86_3 x7 else obd (mlld S 23 ((S.1 28) + x8)) (fun v11 => obd (mald S 25 x7) (fun v12 => (if ((v11 : Int64).toInt32) = v12 then m_stands_l37 S k86_3 n37_8 (x7 + 1) (x8 + 1) else k86_3 x7))))))) := rfl
def m_stands_l4 (a1 : Int32) (S : MS) (k32_1 : Int32 → Prop) : Nat → Int32 → Int32 → Prop
  | 0, _, _ => False
  | n4_17 + 1, x16, x17 => (if a1 ≤ x17 then k32_1 x16 else obd (mald S 25 x16) (fun v19 => jn (fun (v20 : Int32) => m_stands_l4 a1 S k32_1 n4_17 (x16 + 1) (x17 + v20)) (fun k24_20 => (if v19 = 0 then k24_20 1 else k24_20 0))))
theorem m_stands_l4_s (a1 : Int32) (S : MS) (k32_1 : Int32 → Prop) (n4_17 : Nat) (x16 : Int32) (x17 : Int32) : m_stands_l4 a1 S k32_1 (n4_17 + 1) x16 x17 = ((if a1 ≤ x17 then k32_1 x16 else obd (mald S 25 x16) (fun v19 => jn (fun (v20 : Int32) => m_stands_l4 a1 S k32_1 n4_17 (x16 + 1) (x17 + v20)) (fun k24_20 => (if v19 = 0 then k24_20 1 else k24_20 0))))) := rfl
def m_stands (a1 : Int32) (S : MS) (K : Int32 → MS → Prop) : Prop := jn (fun (x1 : Int32) => jn (fun (x3 : Int32) => obd (mald S 25 x3) (fun v5 => (if 32 < v5 then K 0 S else K 1 S))) (fun k86_3 => m_stands_l37 S k86_3 NF x1 (S.1 29))) (fun k32_1 => m_stands_l4 a1 S k32_1 NF 0 0)
theorem iX6_stands : mInf yX6_stands cX6_stands 4 (some .boolean) 1 := ⟨q1800, qs59, q1801, by decide +kernel⟩
set_option maxHeartbeats 4000000 in
theorem met_stands (l : Launch) (a1 : Int32) (S : MS) (K : Int32 → MS → Prop) (hs : m_stands a1 S K) : mMetz l yX6_stands cX6_stands 4 0 0 S (fun ad => [.int a1]) K := by
  intro D dT h ad sz
  refine mEnter (Qc := mQz D dT h ad K) (by decide) rfl (by rfl) ?_
  intro p e s m args below meth c A ls X hK hA hM hl
  have hx := X.1
  have hb := X.2.1
  have hts := X.2.2.2.2.1
  have hown := X.2.2.2.2.2.1
  have hl : lv_has ls 4 [(0, .ref h), (1, .int a1)] := hl
  unfold m_stands at hs
  refine lv_iconst (v := 0) hx hb dX6_stands_0 (by decide) ?_
  refine lv_istore_n (lv' := [(2, .int 0), (0, .ref h), (1, .int a1)]) hx hb dX6_stands_1 rfl hl (by decide) rfl (fun ls hl => ?_)
  refine lv_iconst (v := 0) hx hb dX6_stands_2 (by decide) ?_
  refine lv_istore_n (lv' := [(3, .int 0), (2, .int 0), (0, .ref h), (1, .int a1)]) hx hb dX6_stands_3 rfl hl (by decide) rfl (fun ls hl => ?_)
  obtain ⟨k32_1, hk32_1, hs⟩ := jn_ex hs
  have Ek32_1 : ∀ (x1 : Int32) (H : Heap) (locs : List Loc) (ls : Array Slot), k32_1 x1 → mI D dT A s.heap h ad S H locs → lv_has ls 4 [(0, .ref h), (2, .int x1)] → W p l e (mRm 0 0) s m args below meth c H locs 0 0 (MQ below (mQz D dT h ad K A) args s 0 0 A) (F0 m 32 ls []) := by
    intro x1 H locs ls hs hM hl
    rw [hk32_1] at hs
    refine lv_aload_n hx hb dX6_stands_32 rfl (lv_at hl 0 rfl) ?_
    refine m_geti (v := .int (S.1 29)) X hK hM 29 q1505 rfl rfl rfl dX6_stands_33 ?_
    refine lv_istore_n (lv' := [(3, .int (S.1 29)), (0, .ref h), (2, .int x1)]) hx hb dX6_stands_36 rfl hl (by decide) rfl (fun ls hl => ?_)
    obtain ⟨k86_3, hk86_3, hs⟩ := jn_ex hs
    have Ek86_3 : ∀ (x3 : Int32) (H : Heap) (locs : List Loc) (ls : Array Slot), k86_3 x3 → mI D dT A s.heap h ad S H locs → lv_has ls 4 [(0, .ref h), (2, .int x3)] → W p l e (mRm 0 0) s m args below meth c H locs 0 0 (MQ below (mQz D dT h ad K A) args s 0 0 A) (F0 m 86 ls []) := by
      intro x3 H locs ls hs hM hl
      rw [hk86_3] at hs
      refine lv_aload_n hx hb dX6_stands_86 rfl (lv_at hl 0 rfl) ?_
      refine m_geti (v := .ref (ad 25)) X hK hM 25 q1501 rfl rfl rfl dX6_stands_87 ?_
      refine lv_iload_n hx hb dX6_stands_90 rfl (lv_at hl 1 rfl) ?_
      obtain ⟨v5, ev5, hs⟩ := hs
      refine m_iald X hK hM rfl ev5 dX6_stands_91 ?_
      refine lv_bipush (v := 32) hx hb dX6_stands_92 (by decide) ?_
      refine lv_icmp_gt (tgt := 101) hx hb dX6_stands_94 (by decide) (fun c5 => ?_) (fun c5 => ?_)
      · replace hs := ifp c5 hs
        refine lv_iconst (v := 0) hx hb dX6_stands_101 (by decide) ?_
        exact m_retz X hK hM isB0 hs dX6_stands_102
      · replace hs := ifn c5 hs
        refine lv_iconst (v := 1) hx hb dX6_stands_97 (by decide) ?_
        refine lv_goto (tgt := 102) hx hb dX6_stands_98 (by decide) ?_
        exact m_retz X hK hM isB1 hs dX6_stands_102
    have Lm_stands_l37 : ∀ (n37_8 : Nat) (x7 : Int32) (x8 : Int32) (H : Heap) (locs : List Loc) (ls : Array Slot), m_stands_l37 S k86_3 n37_8 x7 x8 → mI D dT A s.heap h ad S H locs → lv_has ls 4 [(0, .ref h), (2, .int x7), (3, .int x8)] → W p l e (mRm 0 0) s m args below meth c H locs 0 0 (MQ below (mQz D dT h ad K A) args s 0 0 A) (F0 m 37 ls []) := by
      intro n37_8
      induction n37_8 with
      | zero =>
        intro x7 x8 H locs ls hs
        exact False.elim hs
      | succ n37_8 ihm_stands_l37 =>
        intro x7 x8 H locs ls hs hM hl
        rw [m_stands_l37_s] at hs
        refine lv_aload_n hx hb dX6_stands_37 rfl (lv_at hl 0 rfl) ?_
        refine m_geti (v := .ref (ad 25)) X hK hM 25 q1501 rfl rfl rfl dX6_stands_38 ?_
        refine lv_iload_n hx hb dX6_stands_41 rfl (lv_at hl 1 rfl) ?_
        obtain ⟨v10, ev10, hs⟩ := hs
        refine m_iald X hK hM rfl ev10 dX6_stands_42 ?_
        refine lv_bipush (v := 32) hx hb dX6_stands_43 (by decide) ?_
        refine lv_icmp_le (tgt := 86) hx hb dX6_stands_45 (by decide) (fun c14 => ?_) (fun c14 => ?_)
        · replace hs := ifp c14 hs
          exact Ek86_3 _ _ _ _ hs hM (lv_sub hl [0, 1] rfl)
        · replace hs := ifn c14 hs
          refine lv_iload_n hx hb dX6_stands_48 rfl (lv_at hl 2 rfl) ?_
          refine lv_aload_n hx hb dX6_stands_49 rfl (lv_at hl 0 rfl) ?_
          refine m_geti (v := .int (S.1 30)) X hK hM 30 q1506 rfl rfl rfl dX6_stands_50 ?_
          refine lv_icmp_ge (tgt := 86) hx hb dX6_stands_53 (by decide) (fun c13 => ?_) (fun c13 => ?_)
          · replace hs := ifp c13 hs
            exact Ek86_3 _ _ _ _ hs hM (lv_sub hl [0, 1] rfl)
          · replace hs := ifn c13 hs
            refine lv_aload_n hx hb dX6_stands_56 rfl (lv_at hl 0 rfl) ?_
            refine m_geti (v := .ref (ad 23)) X hK hM 23 q1499 rfl rfl rfl dX6_stands_57 ?_
            refine lv_aload_n hx hb dX6_stands_60 rfl (lv_at hl 0 rfl) ?_
            refine m_geti (v := .int (S.1 28)) X hK hM 28 q1504 rfl rfl rfl dX6_stands_61 ?_
            refine lv_iload_n hx hb dX6_stands_64 rfl (lv_at hl 2 rfl) ?_
            refine lv_iadd hx hb dX6_stands_65 ?_
            obtain ⟨v11, ev11, hs⟩ := hs
            refine m_lald X hK hM rfl ev11 dX6_stands_66 ?_
            refine lv_l2i (v := ((v11 : Int64).toInt32)) hx hb dX6_stands_67 rfl ?_
            refine lv_aload_n hx hb dX6_stands_68 rfl (lv_at hl 0 rfl) ?_
            refine m_geti (v := .ref (ad 25)) X hK hM 25 q1501 rfl rfl rfl dX6_stands_69 ?_
            refine lv_iload_n hx hb dX6_stands_72 rfl (lv_at hl 1 rfl) ?_
            obtain ⟨v12, ev12, hs⟩ := hs
            refine m_iald X hK hM rfl ev12 dX6_stands_73 ?_
            refine lv_icmp_ne (tgt := 86) hx hb dX6_stands_74 (by decide) (fun c12 => ?_) (fun c12 => ?_)
            · replace hs := ifn c12 hs
              exact Ek86_3 _ _ _ _ hs hM (lv_sub hl [0, 1] rfl)
            · replace hs := ifp c12 hs
              refine lv_iinc (v := (x8 + 1)) (lv' := [(3, .int (x8 + 1)), (0, .ref h), (2, .int x7)]) hx hb dX6_stands_77 hl (k := 2) rfl (congrArg (fun z => x8 + z) (show Int32.ofInt (1) = 1 by decide)) (by decide) rfl (fun ls hl => ?_)
              refine lv_iinc (v := (x7 + 1)) (lv' := [(2, .int (x7 + 1)), (3, .int (x8 + 1)), (0, .ref h)]) hx hb dX6_stands_80 hl (k := 2) rfl (congrArg (fun z => x7 + z) (show Int32.ofInt (1) = 1 by decide)) (by decide) rfl (fun ls hl => ?_)
              refine lv_goto (tgt := 37) hx hb dX6_stands_83 (by decide) ?_
              exact ihm_stands_l37 _ _ _ _ _ hs hM (lv_sub hl [2, 0, 1] rfl)
    exact Lm_stands_l37 NF _ _ _ _ _ hs hM (lv_sub hl [1, 2, 0] rfl)
  have Lm_stands_l4 : ∀ (n4_17 : Nat) (x16 : Int32) (x17 : Int32) (H : Heap) (locs : List Loc) (ls : Array Slot), m_stands_l4 a1 S k32_1 n4_17 x16 x17 → mI D dT A s.heap h ad S H locs → lv_has ls 4 [(0, .ref h), (1, .int a1), (2, .int x16), (3, .int x17)] → W p l e (mRm 0 0) s m args below meth c H locs 0 0 (MQ below (mQz D dT h ad K A) args s 0 0 A) (F0 m 4 ls []) := by
    intro n4_17
    induction n4_17 with
    | zero =>
      intro x16 x17 H locs ls hs
      exact False.elim hs
    | succ n4_17 ihm_stands_l4 =>
      intro x16 x17 H locs ls hs hM hl
      rw [m_stands_l4_s] at hs
      refine lv_iload_n hx hb dX6_stands_4 rfl (lv_at hl 3 rfl) ?_
      refine lv_iload_n hx hb dX6_stands_5 rfl (lv_at hl 1 rfl) ?_
      refine lv_icmp_ge (tgt := 32) hx hb dX6_stands_6 (by decide) (fun c21 => ?_) (fun c21 => ?_)
      · replace hs := ifp c21 hs
        exact Ek32_1 _ _ _ _ hs hM (lv_sub hl [0, 2] rfl)
      · replace hs := ifn c21 hs
        refine lv_iload_n hx hb dX6_stands_9 rfl (lv_at hl 3 rfl) ?_
        refine lv_aload_n hx hb dX6_stands_10 rfl (lv_at hl 0 rfl) ?_
        refine m_geti (v := .ref (ad 25)) X hK hM 25 q1501 rfl rfl rfl dX6_stands_11 ?_
        refine lv_iload_n hx hb dX6_stands_14 rfl (lv_at hl 2 rfl) ?_
        obtain ⟨v19, ev19, hs⟩ := hs
        refine m_iald X hK hM rfl ev19 dX6_stands_15 ?_
        obtain ⟨k24_20, hk24_20, hs⟩ := jn_ex hs
        have Ek24_20 : ∀ (v20 : Int32) (H : Heap) (locs : List Loc) (ls : Array Slot), k24_20 v20 → mI D dT A s.heap h ad S H locs → lv_has ls 4 [(0, .ref h), (1, .int a1), (2, .int x16)] → W p l e (mRm 0 0) s m args below meth c H locs 0 0 (MQ below (mQz D dT h ad K A) args s 0 0 A) (F0 m 24 ls [.int v20, .int x17]) := by
          intro v20 H locs ls hs hM hl
          rw [hk24_20] at hs
          refine lv_iadd hx hb dX6_stands_24 ?_
          refine lv_istore_n (lv' := [(3, .int (x17 + v20)), (0, .ref h), (1, .int a1), (2, .int x16)]) hx hb dX6_stands_25 rfl hl (by decide) rfl (fun ls hl => ?_)
          refine lv_iinc (v := (x16 + 1)) (lv' := [(2, .int (x16 + 1)), (3, .int (x17 + v20)), (0, .ref h), (1, .int a1)]) hx hb dX6_stands_26 hl (k := 3) rfl (congrArg (fun z => x16 + z) (show Int32.ofInt (1) = 1 by decide)) (by decide) rfl (fun ls hl => ?_)
          refine lv_goto (tgt := 4) hx hb dX6_stands_29 (by decide) ?_
          exact ihm_stands_l4 _ _ _ _ _ hs hM (lv_sub hl [2, 3, 0, 1] rfl)
        refine lv_if_ne (tgt := 23) hx hb dX6_stands_16 (by decide) (fun c20 => ?_) (fun c20 => ?_)
        · replace hs := ifn c20 hs
          refine lv_iconst (v := 0) hx hb dX6_stands_23 (by decide) ?_
          exact Ek24_20 _ _ _ _ hs hM (lv_sub hl [0, 1, 2] rfl)
        · replace hs := ifp c20 hs
          refine lv_iconst (v := 1) hx hb dX6_stands_19 (by decide) ?_
          refine lv_goto (tgt := 24) hx hb dX6_stands_20 (by decide) ?_
          exact Ek24_20 _ _ _ _ hs hM (lv_sub hl [0, 1, 2] rfl)
  exact Lm_stands_l4 NF _ _ _ _ _ hs hM (lv_sub hl [2, 3, 1, 0] rfl)
def m_word_l106 (S : MS) (k121_10 : Int32 → Prop) : Nat → Int32 → Prop
  | 0, _ => False
  | n106_12 + 1, x12 => obd (mald S 25 x12) (fun v14 => (if v14 = 0 then k121_10 x12 else m_word_l106 S k121_10 n106_12 (x12 + 1)))
theorem m_word_l106_s (S : MS) (k121_10 : Int32 → Prop) (n106_12 : Nat) (x12 : Int32) : m_word_l106 S k121_10 (n106_12 + 1) x12 = (obd (mald S 25 x12) (fun v14 => (if v14 = 0 then k121_10 x12 else m_word_l106 S k121_10 n106_12 (x12 + 1)))) := rfl
def m_word_l24 (S : MS) (k75_6 : Int32 → Int32 → Prop) : Nat → Int32 → Int32 → Prop
  | 0, _, _ => False
  | n24_19 + 1, x18, x19 => obd (mald S 25 x19) (fun v21 => (if v21 = 0 then k75_6 x18 x19 else (if (S.1 30) ≤ x18 then k75_6 x18 x19 else obd (mlld S 23 ((S.1 28) + x18)) (fun v22 => obd (mald S 25 x19) (fun v23 => (if ((v22 : Int64).toInt32) = v23 then m_word_l24 S k75_6 n24_19 (x18 + 1) (x19 + 1) else k75_6 x18 x19))))))
theorem m_word_l24_s (S : MS) (k75_6 : Int32 → Int32 → Prop) (n24_19 : Nat) (x18 : Int32) (x19 : Int32) : m_word_l24 S k75_6 (n24_19 + 1) x18 x19 = (obd (mald S 25 x19) (fun v21 => (if v21 = 0 then k75_6 x18 x19 else (if (S.1 30) ≤ x18 then k75_6 x18 x19 else obd (mlld S 23 ((S.1 28) + x18)) (fun v22 => obd (mald S 25 x19) (fun v23 => (if ((v22 : Int64).toInt32) = v23 then m_word_l24 S k75_6 n24_19 (x18 + 1) (x19 + 1) else k75_6 x18 x19))))))) := rfl
def m_word_l9 (K : Int32 → MS → Prop) (S : MS) : Nat → Int32 → Int32 → Int32 → Prop
  | 0, _, _, _ => False
  | n9_3 + 1, x1, x2, x3 => (if 8 ≤ x3 then K (-1) (mset S 32 x2) else jn (fun (x5 : Int32) (x6 : Int32) => obd (mald S 25 x6) (fun v8 => (if v8 = 0 then K x3 (mset S 29 x5) else jn (fun (v9 : Int32) => jn (fun (x10 : Int32) => m_word_l9 K S n9_3 (x10 + 1) v9 (x3 + 1)) (fun k121_10 => m_word_l106 S k121_10 NF x1)) (fun k105_9 => (if x5 ≤ x2 then k105_9 x2 else k105_9 x5))))) (fun k75_6 => m_word_l24 S k75_6 NF (S.1 29) x1))
theorem m_word_l9_s (K : Int32 → MS → Prop) (S : MS) (n9_3 : Nat) (x1 : Int32) (x2 : Int32) (x3 : Int32) : m_word_l9 K S (n9_3 + 1) x1 x2 x3 = ((if 8 ≤ x3 then K (-1) (mset S 32 x2) else jn (fun (x5 : Int32) (x6 : Int32) => obd (mald S 25 x6) (fun v8 => (if v8 = 0 then K x3 (mset S 29 x5) else jn (fun (v9 : Int32) => jn (fun (x10 : Int32) => m_word_l9 K S n9_3 (x10 + 1) v9 (x3 + 1)) (fun k121_10 => m_word_l106 S k121_10 NF x1)) (fun k105_9 => (if x5 ≤ x2 then k105_9 x2 else k105_9 x5))))) (fun k75_6 => m_word_l24 S k75_6 NF (S.1 29) x1))) := rfl
def m_word (S : MS) (K : Int32 → MS → Prop) : Prop := m_word_l9 K S NF 0 (S.1 29) 0
theorem iX6_word : mInf yX6_word cX6_word 6 (some .int) 0 := ⟨q1808, qs61, q1809, by decide +kernel⟩
set_option maxHeartbeats 4000000 in
theorem met_word (l : Launch)  (S : MS) (K : Int32 → MS → Prop) (hs : m_word  S K) : mMeti l yX6_word cX6_word 6 0 0 S (fun ad => []) K := by
  intro D dT h ad sz
  refine mEnter (Qc := mQi D dT h ad K) (by decide) rfl (by rfl) ?_
  intro p e s m args below meth c A ls X hK hA hM hl
  have hx := X.1
  have hb := X.2.1
  have hts := X.2.2.2.2.1
  have hown := X.2.2.2.2.2.1
  have hl : lv_has ls 6 [(0, .ref h)] := hl
  unfold m_word at hs
  refine lv_iconst (v := 0) hx hb dX6_word_0 (by decide) ?_
  refine lv_istore_n (lv' := [(1, .int 0), (0, .ref h)]) hx hb dX6_word_1 rfl hl (by decide) rfl (fun ls hl => ?_)
  refine lv_aload_n hx hb dX6_word_2 rfl (lv_at hl 1 rfl) ?_
  refine m_geti (v := .int (S.1 29)) X hK hM 29 q1505 rfl rfl rfl dX6_word_3 ?_
  refine lv_istore_n (lv' := [(2, .int (S.1 29)), (1, .int 0), (0, .ref h)]) hx hb dX6_word_6 rfl hl (by decide) rfl (fun ls hl => ?_)
  refine lv_iconst (v := 0) hx hb dX6_word_7 (by decide) ?_
  refine lv_istore_n (lv' := [(3, .int 0), (2, .int (S.1 29)), (1, .int 0), (0, .ref h)]) hx hb dX6_word_8 rfl hl (by decide) rfl (fun ls hl => ?_)
  have Lm_word_l9 : ∀ (n9_3 : Nat) (x1 : Int32) (x2 : Int32) (x3 : Int32) (H : Heap) (locs : List Loc) (ls : Array Slot), m_word_l9 K S n9_3 x1 x2 x3 → mI D dT A s.heap h ad S H locs → lv_has ls 6 [(0, .ref h), (1, .int x1), (2, .int x2), (3, .int x3)] → W p l e (mRm 0 0) s m args below meth c H locs 0 0 (MQ below (mQi D dT h ad K A) args s 0 0 A) (F0 m 9 ls []) := by
    intro n9_3
    induction n9_3 with
    | zero =>
      intro x1 x2 x3 H locs ls hs
      exact False.elim hs
    | succ n9_3 ihm_word_l9 =>
      intro x1 x2 x3 H locs ls hs hM hl
      rw [m_word_l9_s] at hs
      refine lv_iload_n hx hb dX6_word_9 rfl (lv_at hl 3 rfl) ?_
      refine lv_bipush (v := 8) hx hb dX6_word_10 (by decide) ?_
      refine lv_icmp_ge (tgt := 130) hx hb dX6_word_12 (by decide) (fun c26 => ?_) (fun c26 => ?_)
      · replace hs := ifp c26 hs
        refine lv_aload_n hx hb dX6_word_130 rfl (lv_at hl 0 rfl) ?_
        refine lv_iload_n hx hb dX6_word_131 rfl (lv_at hl 2 rfl) ?_
        refine m_puti X hK hM 32 q1508 rfl rfl rfl rfl rfl rfl dX6_word_132 (fun H locs hM => ?_)
        refine lv_iconst (v := (-1)) hx hb dX6_word_135 (by decide) ?_
        exact m_reti X hK hM hs dX6_word_136
      · replace hs := ifn c26 hs
        refine lv_aload_n hx hb dX6_word_15 rfl (lv_at hl 0 rfl) ?_
        refine m_geti (v := .int (S.1 29)) X hK hM 29 q1505 rfl rfl rfl dX6_word_16 ?_
        refine lv_istore (lv' := [(4, .int (S.1 29)), (0, .ref h), (1, .int x1), (2, .int x2), (3, .int x3)]) hx hb dX6_word_19 hl (by decide) rfl (fun ls hl => ?_)
        refine lv_iload_n hx hb dX6_word_21 rfl (lv_at hl 2 rfl) ?_
        refine lv_istore (lv' := [(5, .int x1), (4, .int (S.1 29)), (0, .ref h), (1, .int x1), (2, .int x2), (3, .int x3)]) hx hb dX6_word_22 hl (by decide) rfl (fun ls hl => ?_)
        obtain ⟨k75_6, hk75_6, hs⟩ := jn_ex hs
        have Ek75_6 : ∀ (x5 : Int32) (x6 : Int32) (H : Heap) (locs : List Loc) (ls : Array Slot), k75_6 x5 x6 → mI D dT A s.heap h ad S H locs → lv_has ls 6 [(0, .ref h), (1, .int x1), (2, .int x2), (3, .int x3), (4, .int x5), (5, .int x6)] → W p l e (mRm 0 0) s m args below meth c H locs 0 0 (MQ below (mQi D dT h ad K A) args s 0 0 A) (F0 m 75 ls []) := by
          intro x5 x6 H locs ls hs hM hl
          rw [hk75_6] at hs
          refine lv_aload_n hx hb dX6_word_75 rfl (lv_at hl 0 rfl) ?_
          refine m_geti (v := .ref (ad 25)) X hK hM 25 q1501 rfl rfl rfl dX6_word_76 ?_
          refine lv_iload hx hb dX6_word_79 (lv_at hl 5 rfl) ?_
          obtain ⟨v8, ev8, hs⟩ := hs
          refine m_iald X hK hM rfl ev8 dX6_word_81 ?_
          refine lv_if_ne (tgt := 93) hx hb dX6_word_82 (by decide) (fun c16 => ?_) (fun c16 => ?_)
          · replace hs := ifn c16 hs
            refine lv_iload hx hb dX6_word_93 (lv_at hl 4 rfl) ?_
            refine lv_iload_n hx hb dX6_word_95 rfl (lv_at hl 2 rfl) ?_
            obtain ⟨k105_9, hk105_9, hs⟩ := jn_ex hs
            have Ek105_9 : ∀ (v9 : Int32) (H : Heap) (locs : List Loc) (ls : Array Slot), k105_9 v9 → mI D dT A s.heap h ad S H locs → lv_has ls 6 [(0, .ref h), (1, .int x1), (3, .int x3)] → W p l e (mRm 0 0) s m args below meth c H locs 0 0 (MQ below (mQi D dT h ad K A) args s 0 0 A) (F0 m 105 ls [.int v9]) := by
              intro v9 H locs ls hs hM hl
              rw [hk105_9] at hs
              refine lv_istore_n (lv' := [(2, .int v9), (0, .ref h), (1, .int x1), (3, .int x3)]) hx hb dX6_word_105 rfl hl (by decide) rfl (fun ls hl => ?_)
              obtain ⟨k121_10, hk121_10, hs⟩ := jn_ex hs
              have Ek121_10 : ∀ (x10 : Int32) (H : Heap) (locs : List Loc) (ls : Array Slot), k121_10 x10 → mI D dT A s.heap h ad S H locs → lv_has ls 6 [(0, .ref h), (1, .int x10), (2, .int v9), (3, .int x3)] → W p l e (mRm 0 0) s m args below meth c H locs 0 0 (MQ below (mQi D dT h ad K A) args s 0 0 A) (F0 m 121 ls []) := by
                intro x10 H locs ls hs hM hl
                rw [hk121_10] at hs
                refine lv_iinc (v := (x10 + 1)) (lv' := [(1, .int (x10 + 1)), (0, .ref h), (2, .int v9), (3, .int x3)]) hx hb dX6_word_121 hl (k := 1) rfl (congrArg (fun z => x10 + z) (show Int32.ofInt (1) = 1 by decide)) (by decide) rfl (fun ls hl => ?_)
                refine lv_iinc (v := (x3 + 1)) (lv' := [(3, .int (x3 + 1)), (1, .int (x10 + 1)), (0, .ref h), (2, .int v9)]) hx hb dX6_word_124 hl (k := 3) rfl (congrArg (fun z => x3 + z) (show Int32.ofInt (1) = 1 by decide)) (by decide) rfl (fun ls hl => ?_)
                refine lv_goto (tgt := 9) hx hb dX6_word_127 (by decide) ?_
                exact ihm_word_l9 _ _ _ _ _ _ hs hM (lv_sub hl [2, 1, 3, 0] rfl)
              have Lm_word_l106 : ∀ (n106_12 : Nat) (x12 : Int32) (H : Heap) (locs : List Loc) (ls : Array Slot), m_word_l106 S k121_10 n106_12 x12 → mI D dT A s.heap h ad S H locs → lv_has ls 6 [(0, .ref h), (1, .int x12), (2, .int v9), (3, .int x3)] → W p l e (mRm 0 0) s m args below meth c H locs 0 0 (MQ below (mQi D dT h ad K A) args s 0 0 A) (F0 m 106 ls []) := by
                intro n106_12
                induction n106_12 with
                | zero =>
                  intro x12 H locs ls hs
                  exact False.elim hs
                | succ n106_12 ihm_word_l106 =>
                  intro x12 H locs ls hs hM hl
                  rw [m_word_l106_s] at hs
                  refine lv_aload_n hx hb dX6_word_106 rfl (lv_at hl 0 rfl) ?_
                  refine m_geti (v := .ref (ad 25)) X hK hM 25 q1501 rfl rfl rfl dX6_word_107 ?_
                  refine lv_iload_n hx hb dX6_word_110 rfl (lv_at hl 1 rfl) ?_
                  obtain ⟨v14, ev14, hs⟩ := hs
                  refine m_iald X hK hM rfl ev14 dX6_word_111 ?_
                  refine lv_if_eq (tgt := 121) hx hb dX6_word_112 (by decide) (fun c14 => ?_) (fun c14 => ?_)
                  · replace hs := ifp c14 hs
                    exact Ek121_10 _ _ _ _ hs hM hl
                  · replace hs := ifn c14 hs
                    refine lv_iinc (v := (x12 + 1)) (lv' := [(1, .int (x12 + 1)), (0, .ref h), (2, .int v9), (3, .int x3)]) hx hb dX6_word_115 hl (k := 1) rfl (congrArg (fun z => x12 + z) (show Int32.ofInt (1) = 1 by decide)) (by decide) rfl (fun ls hl => ?_)
                    refine lv_goto (tgt := 106) hx hb dX6_word_118 (by decide) ?_
                    exact ihm_word_l106 _ _ _ _ hs hM (lv_sub hl [1, 0, 2, 3] rfl)
              exact Lm_word_l106 NF _ _ _ _ hs hM (lv_sub hl [1, 2, 0, 3] rfl)
            refine lv_icmp_le (tgt := 104) hx hb dX6_word_96 (by decide) (fun c15 => ?_) (fun c15 => ?_)
            · replace hs := ifp c15 hs
              refine lv_iload_n hx hb dX6_word_104 rfl (lv_at hl 2 rfl) ?_
              exact Ek105_9 _ _ _ _ hs hM (lv_sub hl [0, 1, 3] rfl)
            · replace hs := ifn c15 hs
              refine lv_iload hx hb dX6_word_99 (lv_at hl 4 rfl) ?_
              refine lv_goto (tgt := 105) hx hb dX6_word_101 (by decide) ?_
              exact Ek105_9 _ _ _ _ hs hM (lv_sub hl [0, 1, 3] rfl)
          · replace hs := ifp c16 hs
            refine lv_aload_n hx hb dX6_word_85 rfl (lv_at hl 0 rfl) ?_
            refine lv_iload hx hb dX6_word_86 (lv_at hl 4 rfl) ?_
            refine m_puti X hK hM 29 q1505 rfl rfl rfl rfl rfl rfl dX6_word_88 (fun H locs hM => ?_)
            refine lv_iload_n hx hb dX6_word_91 rfl (lv_at hl 3 rfl) ?_
            exact m_reti X hK hM hs dX6_word_92
        have Lm_word_l24 : ∀ (n24_19 : Nat) (x18 : Int32) (x19 : Int32) (H : Heap) (locs : List Loc) (ls : Array Slot), m_word_l24 S k75_6 n24_19 x18 x19 → mI D dT A s.heap h ad S H locs → lv_has ls 6 [(0, .ref h), (1, .int x1), (2, .int x2), (3, .int x3), (4, .int x18), (5, .int x19)] → W p l e (mRm 0 0) s m args below meth c H locs 0 0 (MQ below (mQi D dT h ad K A) args s 0 0 A) (F0 m 24 ls []) := by
          intro n24_19
          induction n24_19 with
          | zero =>
            intro x18 x19 H locs ls hs
            exact False.elim hs
          | succ n24_19 ihm_word_l24 =>
            intro x18 x19 H locs ls hs hM hl
            rw [m_word_l24_s] at hs
            refine lv_aload_n hx hb dX6_word_24 rfl (lv_at hl 0 rfl) ?_
            refine m_geti (v := .ref (ad 25)) X hK hM 25 q1501 rfl rfl rfl dX6_word_25 ?_
            refine lv_iload hx hb dX6_word_28 (lv_at hl 5 rfl) ?_
            obtain ⟨v21, ev21, hs⟩ := hs
            refine m_iald X hK hM rfl ev21 dX6_word_30 ?_
            refine lv_if_eq (tgt := 75) hx hb dX6_word_31 (by decide) (fun c25 => ?_) (fun c25 => ?_)
            · replace hs := ifp c25 hs
              exact Ek75_6 _ _ _ _ _ hs hM hl
            · replace hs := ifn c25 hs
              refine lv_iload hx hb dX6_word_34 (lv_at hl 4 rfl) ?_
              refine lv_aload_n hx hb dX6_word_36 rfl (lv_at hl 0 rfl) ?_
              refine m_geti (v := .int (S.1 30)) X hK hM 30 q1506 rfl rfl rfl dX6_word_37 ?_
              refine lv_icmp_ge (tgt := 75) hx hb dX6_word_40 (by decide) (fun c24 => ?_) (fun c24 => ?_)
              · replace hs := ifp c24 hs
                exact Ek75_6 _ _ _ _ _ hs hM hl
              · replace hs := ifn c24 hs
                refine lv_aload_n hx hb dX6_word_43 rfl (lv_at hl 0 rfl) ?_
                refine m_geti (v := .ref (ad 23)) X hK hM 23 q1499 rfl rfl rfl dX6_word_44 ?_
                refine lv_aload_n hx hb dX6_word_47 rfl (lv_at hl 0 rfl) ?_
                refine m_geti (v := .int (S.1 28)) X hK hM 28 q1504 rfl rfl rfl dX6_word_48 ?_
                refine lv_iload hx hb dX6_word_51 (lv_at hl 4 rfl) ?_
                refine lv_iadd hx hb dX6_word_53 ?_
                obtain ⟨v22, ev22, hs⟩ := hs
                refine m_lald X hK hM rfl ev22 dX6_word_54 ?_
                refine lv_l2i (v := ((v22 : Int64).toInt32)) hx hb dX6_word_55 rfl ?_
                refine lv_aload_n hx hb dX6_word_56 rfl (lv_at hl 0 rfl) ?_
                refine m_geti (v := .ref (ad 25)) X hK hM 25 q1501 rfl rfl rfl dX6_word_57 ?_
                refine lv_iload hx hb dX6_word_60 (lv_at hl 5 rfl) ?_
                obtain ⟨v23, ev23, hs⟩ := hs
                refine m_iald X hK hM rfl ev23 dX6_word_62 ?_
                refine lv_icmp_ne (tgt := 75) hx hb dX6_word_63 (by decide) (fun c23 => ?_) (fun c23 => ?_)
                · replace hs := ifn c23 hs
                  exact Ek75_6 _ _ _ _ _ hs hM hl
                · replace hs := ifp c23 hs
                  refine lv_iinc (v := (x18 + 1)) (lv' := [(4, .int (x18 + 1)), (0, .ref h), (1, .int x1), (2, .int x2), (3, .int x3), (5, .int x19)]) hx hb dX6_word_66 hl (k := 4) rfl (congrArg (fun z => x18 + z) (show Int32.ofInt (1) = 1 by decide)) (by decide) rfl (fun ls hl => ?_)
                  refine lv_iinc (v := (x19 + 1)) (lv' := [(5, .int (x19 + 1)), (4, .int (x18 + 1)), (0, .ref h), (1, .int x1), (2, .int x2), (3, .int x3)]) hx hb dX6_word_69 hl (k := 5) rfl (congrArg (fun z => x19 + z) (show Int32.ofInt (1) = 1 by decide)) (by decide) rfl (fun ls hl => ?_)
                  refine lv_goto (tgt := 24) hx hb dX6_word_72 (by decide) ?_
                  exact ihm_word_l24 _ _ _ _ _ hs hM (lv_sub hl [2, 3, 4, 5, 1, 0] rfl)
        exact Lm_word_l24 NF _ _ _ _ _ hs hM (lv_sub hl [2, 3, 4, 5, 1, 0] rfl)
  exact Lm_word_l9 NF _ _ _ _ _ _ hs hM (lv_sub hl [3, 2, 1, 0] rfl)
