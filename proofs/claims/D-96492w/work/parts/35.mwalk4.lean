set_option maxRecDepth 100000
def m_item_l57 (K : Int32 → MS → Prop) (r6 : Int32) (k166_7 : MS → Prop) (k102_27 : MS → Prop) (k144_32 : Int32 → MS → Prop) : Nat → Int32 → MS → Prop
  | 0, _, _ => False
  | n57_37 + 1, x36, S37 => obd (mald S37 26 r6) (fun v39 => (if v39 ≤ x36 then k166_7 S37 else jn (fun (S40 : MS) => m_reads  S40 (fun r42 S41 => (if r42 = 0 then K 0 S41 else m_isSo r6 x36 S41 (fun r44 S43 => (if r44 = 0 then k144_32 (S40.1 29) S43 else obd (mast S43 27 x36 (S43.1 31)) (fun S45 => m_item_l57 K r6 k166_7 k102_27 k144_32 n57_37 (x36 + 1) S45)))))) (fun k121_40 => (if x36 ≤ 0 then k121_40 S37 else (if (S37.1 30) ≤ (S37.1 29) then k102_27 S37 else obd (mlld S37 23 ((S37.1 28) + (S37.1 29))) (fun v48 => (if ((v48 : Int64).toInt32) = 32 then k121_40 (mset S37 29 ((S37.1 29) + 1)) else k102_27 S37)))))))
theorem m_item_l57_s (K : Int32 → MS → Prop) (r6 : Int32) (k166_7 : MS → Prop) (k102_27 : MS → Prop) (k144_32 : Int32 → MS → Prop) (n57_37 : Nat) (x36 : Int32) (S37 : MS) : m_item_l57 K r6 k166_7 k102_27 k144_32 (n57_37 + 1) x36 S37 = (obd (mald S37 26 r6) (fun v39 => (if v39 ≤ x36 then k166_7 S37 else jn (fun (S40 : MS) => m_reads  S40 (fun r42 S41 => (if r42 = 0 then K 0 S41 else m_isSo r6 x36 S41 (fun r44 S43 => (if r44 = 0 then k144_32 (S40.1 29) S43 else obd (mast S43 27 x36 (S43.1 31)) (fun S45 => m_item_l57 K r6 k166_7 k102_27 k144_32 n57_37 (x36 + 1) S45)))))) (fun k121_40 => (if x36 ≤ 0 then k121_40 S37 else (if (S37.1 30) ≤ (S37.1 29) then k102_27 S37 else obd (mlld S37 23 ((S37.1 28) + (S37.1 29))) (fun v48 => (if ((v48 : Int64).toInt32) = 32 then k121_40 (mset S37 29 ((S37.1 29) + 1)) else k102_27 S37)))))))) := rfl
def m_item (S : MS) (K : Int32 → MS → Prop) : Prop := m_stands 0 S (fun r2 S1 => jn (m_stands 1 S1 (fun r4 S3 => jn (m_word  S3 (fun r6 S5 => (if r6 = (-1) then K 0 S5 else jn (fun (S7 : MS) => (if r6 = 0 then obd (mald S7 27 0) (fun v10 => obd (mald S7 27 1) (fun v11 => obd (mald S7 27 2) (fun v12 => m_addsChild v10 v11 v12 S7 (fun r14 S13 => K 1 S13)))) else if r6 = 1 then obd (mald S7 27 0) (fun v15 => obd (mald S7 27 1) (fun v16 => m_addsSack v15 v16 S7 (fun r18 S17 => K 1 S17))) else if r6 = 2 then obd (mald S7 27 0) (fun v19 => obd (mald S7 27 1) (fun v20 => obd (mast S7 14 v19 v20) (fun S21 => K 1 S21))) else if r6 = 3 then obd (mald S7 27 0) (fun v22 => obd (mald S7 27 1) (fun v23 => obd (mast S7 15 v22 v23) (fun S24 => K 1 S24))) else obd (mald S7 27 0) (fun v25 => m_tells (r6 - 4) v25 S7 (fun S26 => K 1 S26)))) (fun k166_7 => jn (fun (S27 : MS) => m_wrong (S27.1 29) S27 (fun r30 S29 => K r30 S29)) (fun k102_27 => jn (fun (x31 : Int32) (S32 : MS) => m_wrong x31 S32 (fun r35 S34 => K r35 S34)) (fun k144_32 => m_item_l57 K r6 k166_7 k102_27 k144_32 NF 0 S5)))))) (fun k43_4 => (if r4 = 0 then k43_4 else (if (S3.1 1) = 8 then m_wrong (S3.1 29) S3 (fun r55 S54 => K r55 S54) else k43_4))))) (fun k17_2 => jn (fun (S58 : MS) => m_wrong (S58.1 29) S58 (fun r60 S59 => K r60 S59)) (fun k34_58 => (if r2 = 0 then k17_2 else (if (S1.1 0) = 8 then k34_58 S1 else k17_2)))))
theorem iX6_item : mInf yX6_item cX6_item 4 (some .boolean) 0 := ⟨q1796, qs58, q1797, by decide +kernel⟩
set_option maxHeartbeats 4000000 in
theorem met_item (l : Launch)  (S : MS) (K : Int32 → MS → Prop) (hs : m_item  S K) : mMetz l yX6_item cX6_item 4 2 44 S (fun ad => []) K := by
  intro D dT h ad sz
  refine mEnter (Qc := mQz D dT h ad K) (by decide) rfl (by rfl) ?_
  intro p e s m args below meth c A ls X hK hA hM hl
  have hx := X.1
  have hb := X.2.1
  have hts := X.2.2.2.2.1
  have hown := X.2.2.2.2.2.1
  have hl : lv_has ls 4 [(0, .ref h)] := hl
  unfold m_item at hs
  refine lv_aload_n hx hb dX6_item_0 rfl (lv_at hl 0 rfl) ?_
  refine lv_iconst (v := 0) hx hb dX6_item_1 (by decide) ?_
  refine m_callz (rest := []) (av := fun ad => [.int 0]) X hK hA hM (met_stands l 0 _ _ hs) iX6_stands q1798 ⟨Nat.le_of_ble_eq_true rfl, Nat.le_of_ble_eq_true rfl⟩ rfl hl.1 rfl (Nat.le_of_ble_eq_true rfl) dX6_item_2 (fun r2 S1 H locs br2 hs hM => ?_)
  obtain ⟨k17_2, hk17_2, hs⟩ := jn_ex hs
  have Ek17_2 : ∀ (H : Heap) (locs : List Loc) (ls : Array Slot), k17_2 → mI D dT A s.heap h ad S1 H locs → lv_has ls 4 [(0, .ref h)] → W p l e (mRm 2 44) s m args below meth c H locs 0 0 (MQ below (mQz D dT h ad K A) args s 0 0 A) (F0 m 17 ls []) := by
    intro H locs ls hs hM hl
    rw [hk17_2] at hs
    refine lv_aload_n hx hb dX6_item_17 rfl (lv_at hl 0 rfl) ?_
    refine lv_iconst (v := 1) hx hb dX6_item_18 (by decide) ?_
    refine m_callz (rest := []) (av := fun ad => [.int 1]) X hK hA hM (met_stands l 1 _ _ hs) iX6_stands q1798 ⟨Nat.le_of_ble_eq_true rfl, Nat.le_of_ble_eq_true rfl⟩ rfl hl.1 rfl (Nat.le_of_ble_eq_true rfl) dX6_item_19 (fun r4 S3 H locs br4 hs hM => ?_)
    obtain ⟨k43_4, hk43_4, hs⟩ := jn_ex hs
    have Ek43_4 : ∀ (H : Heap) (locs : List Loc) (ls : Array Slot), k43_4 → mI D dT A s.heap h ad S3 H locs → lv_has ls 4 [(0, .ref h)] → W p l e (mRm 2 44) s m args below meth c H locs 0 0 (MQ below (mQz D dT h ad K A) args s 0 0 A) (F0 m 43 ls []) := by
      intro H locs ls hs hM hl
      rw [hk43_4] at hs
      refine lv_aload_n hx hb dX6_item_43 rfl (lv_at hl 0 rfl) ?_
      refine m_calli (rest := []) (av := fun ad => []) X hK hA hM (met_word l  _ _ hs) iX6_word q1806 ⟨Nat.le_of_ble_eq_true rfl, Nat.le_of_ble_eq_true rfl⟩ rfl hl.1 rfl (Nat.le_of_ble_eq_true rfl) dX6_item_44 (fun r6 S5 H locs hs hM => ?_)
      refine lv_istore_n (lv' := [(1, .int r6), (0, .ref h)]) hx hb dX6_item_47 rfl hl (by decide) rfl (fun ls hl => ?_)
      refine lv_iload_n hx hb dX6_item_48 rfl (lv_at hl 0 rfl) ?_
      refine lv_iconst (v := (-1)) hx hb dX6_item_49 (by decide) ?_
      refine lv_icmp_ne (tgt := 55) hx hb dX6_item_50 (by decide) (fun c52 => ?_) (fun c52 => ?_)
      · replace hs := ifn c52 hs
        refine lv_iconst (v := 0) hx hb dX6_item_55 (by decide) ?_
        refine lv_istore_n (lv' := [(2, .int 0), (1, .int r6), (0, .ref h)]) hx hb dX6_item_56 rfl hl (by decide) rfl (fun ls hl => ?_)
        obtain ⟨k166_7, hk166_7, hs⟩ := jn_ex hs
        have Ek166_7 : ∀ (S7 : MS) (H : Heap) (locs : List Loc) (ls : Array Slot), k166_7 S7 → mI D dT A s.heap h ad S7 H locs → lv_has ls 4 [(0, .ref h), (1, .int r6)] → W p l e (mRm 2 44) s m args below meth c H locs 0 0 (MQ below (mQz D dT h ad K A) args s 0 0 A) (F0 m 166 ls []) := by
          intro S7 H locs ls hs hM hl
          rw [hk166_7] at hs
          refine lv_iload_n hx hb dX6_item_166 rfl (lv_at hl 1 rfl) ?_
          by_cases c8_0 : r6 = 0
          · replace hs := ifp c8_0 hs
            refine lv_tableIn (tgt := 196) hx hb dX6_item_167 (by rw [c8_0]; decide) (by rw [c8_0]; decide) (by rw [c8_0]; rfl) (by decide) ?_
            refine lv_aload_n hx hb dX6_item_196 rfl (lv_at hl 0 rfl) ?_
            refine lv_aload_n hx hb dX6_item_197 rfl (lv_at hl 0 rfl) ?_
            refine m_geti (v := .ref (ad 27)) X hK hM 27 q1503 rfl rfl rfl dX6_item_198 ?_
            refine lv_iconst (v := 0) hx hb dX6_item_201 (by decide) ?_
            obtain ⟨v10, ev10, hs⟩ := hs
            refine m_iald X hK hM rfl ev10 dX6_item_202 ?_
            refine lv_aload_n hx hb dX6_item_203 rfl (lv_at hl 0 rfl) ?_
            refine m_geti (v := .ref (ad 27)) X hK hM 27 q1503 rfl rfl rfl dX6_item_204 ?_
            refine lv_iconst (v := 1) hx hb dX6_item_207 (by decide) ?_
            obtain ⟨v11, ev11, hs⟩ := hs
            refine m_iald X hK hM rfl ev11 dX6_item_208 ?_
            refine lv_aload_n hx hb dX6_item_209 rfl (lv_at hl 0 rfl) ?_
            refine m_geti (v := .ref (ad 27)) X hK hM 27 q1503 rfl rfl rfl dX6_item_210 ?_
            refine lv_iconst (v := 2) hx hb dX6_item_213 (by decide) ?_
            obtain ⟨v12, ev12, hs⟩ := hs
            refine m_iald X hK hM rfl ev12 dX6_item_214 ?_
            refine m_calli (rest := []) (av := fun ad => [.int v10, .int v11, .int v12]) X hK hA hM (met_addsChild l v10 v11 v12 _ _ hs) iX6_addsChild q1726 ⟨Nat.le_of_ble_eq_true rfl, Nat.le_of_ble_eq_true rfl⟩ rfl hl.1 rfl (Nat.le_of_ble_eq_true rfl) dX6_item_215 (fun r14 S13 H locs hs hM => ?_)
            refine lv_pop hx hb dX6_item_218 rfl ?_
            refine lv_goto (tgt := 295) hx hb dX6_item_219 (by decide) ?_
            refine lv_iconst (v := 1) hx hb dX6_item_295 (by decide) ?_
            exact m_retz X hK hM isB1 hs dX6_item_296
          · replace hs := ifn c8_0 hs
            by_cases c8_1 : r6 = 1
            · replace hs := ifp c8_1 hs
              refine lv_tableIn (tgt := 222) hx hb dX6_item_167 (by rw [c8_1]; decide) (by rw [c8_1]; decide) (by rw [c8_1]; rfl) (by decide) ?_
              refine lv_aload_n hx hb dX6_item_222 rfl (lv_at hl 0 rfl) ?_
              refine lv_aload_n hx hb dX6_item_223 rfl (lv_at hl 0 rfl) ?_
              refine m_geti (v := .ref (ad 27)) X hK hM 27 q1503 rfl rfl rfl dX6_item_224 ?_
              refine lv_iconst (v := 0) hx hb dX6_item_227 (by decide) ?_
              obtain ⟨v15, ev15, hs⟩ := hs
              refine m_iald X hK hM rfl ev15 dX6_item_228 ?_
              refine lv_aload_n hx hb dX6_item_229 rfl (lv_at hl 0 rfl) ?_
              refine m_geti (v := .ref (ad 27)) X hK hM 27 q1503 rfl rfl rfl dX6_item_230 ?_
              refine lv_iconst (v := 1) hx hb dX6_item_233 (by decide) ?_
              obtain ⟨v16, ev16, hs⟩ := hs
              refine m_iald X hK hM rfl ev16 dX6_item_234 ?_
              refine m_calli (rest := []) (av := fun ad => [.int v15, .int v16]) X hK hA hM (met_addsSack l v15 v16 _ _ hs) iX6_addsSack q1734 ⟨Nat.le_of_ble_eq_true rfl, Nat.le_of_ble_eq_true rfl⟩ rfl hl.1 rfl (Nat.le_of_ble_eq_true rfl) dX6_item_235 (fun r18 S17 H locs hs hM => ?_)
              refine lv_pop hx hb dX6_item_238 rfl ?_
              refine lv_goto (tgt := 295) hx hb dX6_item_239 (by decide) ?_
              refine lv_iconst (v := 1) hx hb dX6_item_295 (by decide) ?_
              exact m_retz X hK hM isB1 hs dX6_item_296
            · replace hs := ifn c8_1 hs
              by_cases c8_2 : r6 = 2
              · replace hs := ifp c8_2 hs
                refine lv_tableIn (tgt := 242) hx hb dX6_item_167 (by rw [c8_2]; decide) (by rw [c8_2]; decide) (by rw [c8_2]; rfl) (by decide) ?_
                refine lv_aload_n hx hb dX6_item_242 rfl (lv_at hl 0 rfl) ?_
                refine m_geti (v := .ref (ad 14)) X hK hM 14 q1490 rfl rfl rfl dX6_item_243 ?_
                refine lv_aload_n hx hb dX6_item_246 rfl (lv_at hl 0 rfl) ?_
                refine m_geti (v := .ref (ad 27)) X hK hM 27 q1503 rfl rfl rfl dX6_item_247 ?_
                refine lv_iconst (v := 0) hx hb dX6_item_250 (by decide) ?_
                obtain ⟨v19, ev19, hs⟩ := hs
                refine m_iald X hK hM rfl ev19 dX6_item_251 ?_
                refine lv_aload_n hx hb dX6_item_252 rfl (lv_at hl 0 rfl) ?_
                refine m_geti (v := .ref (ad 27)) X hK hM 27 q1503 rfl rfl rfl dX6_item_253 ?_
                refine lv_iconst (v := 1) hx hb dX6_item_256 (by decide) ?_
                obtain ⟨v20, ev20, hs⟩ := hs
                refine m_iald X hK hM rfl ev20 dX6_item_257 ?_
                obtain ⟨S21, eS21, hs⟩ := hs
                refine m_iast X hK hM rfl eS21 dX6_item_258 (fun H locs hM => ?_)
                refine lv_goto (tgt := 295) hx hb dX6_item_259 (by decide) ?_
                refine lv_iconst (v := 1) hx hb dX6_item_295 (by decide) ?_
                exact m_retz X hK hM isB1 hs dX6_item_296
              · replace hs := ifn c8_2 hs
                by_cases c8_3 : r6 = 3
                · replace hs := ifp c8_3 hs
                  refine lv_tableIn (tgt := 262) hx hb dX6_item_167 (by rw [c8_3]; decide) (by rw [c8_3]; decide) (by rw [c8_3]; rfl) (by decide) ?_
                  refine lv_aload_n hx hb dX6_item_262 rfl (lv_at hl 0 rfl) ?_
                  refine m_geti (v := .ref (ad 15)) X hK hM 15 q1491 rfl rfl rfl dX6_item_263 ?_
                  refine lv_aload_n hx hb dX6_item_266 rfl (lv_at hl 0 rfl) ?_
                  refine m_geti (v := .ref (ad 27)) X hK hM 27 q1503 rfl rfl rfl dX6_item_267 ?_
                  refine lv_iconst (v := 0) hx hb dX6_item_270 (by decide) ?_
                  obtain ⟨v22, ev22, hs⟩ := hs
                  refine m_iald X hK hM rfl ev22 dX6_item_271 ?_
                  refine lv_aload_n hx hb dX6_item_272 rfl (lv_at hl 0 rfl) ?_
                  refine m_geti (v := .ref (ad 27)) X hK hM 27 q1503 rfl rfl rfl dX6_item_273 ?_
                  refine lv_iconst (v := 1) hx hb dX6_item_276 (by decide) ?_
                  obtain ⟨v23, ev23, hs⟩ := hs
                  refine m_iald X hK hM rfl ev23 dX6_item_277 ?_
                  obtain ⟨S24, eS24, hs⟩ := hs
                  refine m_iast X hK hM rfl eS24 dX6_item_278 (fun H locs hM => ?_)
                  refine lv_goto (tgt := 295) hx hb dX6_item_279 (by decide) ?_
                  refine lv_iconst (v := 1) hx hb dX6_item_295 (by decide) ?_
                  exact m_retz X hK hM isB1 hs dX6_item_296
                · replace hs := ifn c8_3 hs
                  refine lv_tableOut (tgt := 282) hx hb dX6_item_167 (sw_out (fun k h1 h2 => by
                    have h3 : k = 0 ∨ k = 1 ∨ k = 2 ∨ k = 3 := by omega
                    rcases h3 with rfl | rfl | rfl | rfl
                    · exact lv_neT c8_0 rfl
                    · exact lv_neT c8_1 rfl
                    · exact lv_neT c8_2 rfl
                    · exact lv_neT c8_3 rfl
                    )) (by decide) ?_
                  refine lv_aload_n hx hb dX6_item_282 rfl (lv_at hl 0 rfl) ?_
                  refine lv_iload_n hx hb dX6_item_283 rfl (lv_at hl 1 rfl) ?_
                  refine lv_iconst (v := 4) hx hb dX6_item_284 (by decide) ?_
                  refine lv_isub hx hb dX6_item_285 ?_
                  refine lv_aload_n hx hb dX6_item_286 rfl (lv_at hl 0 rfl) ?_
                  refine m_geti (v := .ref (ad 27)) X hK hM 27 q1503 rfl rfl rfl dX6_item_287 ?_
                  refine lv_iconst (v := 0) hx hb dX6_item_290 (by decide) ?_
                  obtain ⟨v25, ev25, hs⟩ := hs
                  refine m_iald X hK hM rfl ev25 dX6_item_291 ?_
                  refine m_callv (rest := []) (av := fun ad => [.int (r6 - 4), .int v25]) X hK hA hM (met_tells l (r6 - 4) v25 _ _ hs) iX6_tells q1770 ⟨Nat.le_of_ble_eq_true rfl, Nat.le_of_ble_eq_true rfl⟩ rfl hl.1 rfl (Nat.le_of_ble_eq_true rfl) dX6_item_292 (fun S26 H locs hs hM => ?_)
                  refine lv_iconst (v := 1) hx hb dX6_item_295 (by decide) ?_
                  exact m_retz X hK hM isB1 hs dX6_item_296
        obtain ⟨k102_27, hk102_27, hs⟩ := jn_ex hs
        have Ek102_27 : ∀ (S27 : MS) (H : Heap) (locs : List Loc) (ls : Array Slot), k102_27 S27 → mI D dT A s.heap h ad S27 H locs → lv_has ls 4 [(0, .ref h)] → W p l e (mRm 2 44) s m args below meth c H locs 0 0 (MQ below (mQz D dT h ad K A) args s 0 0 A) (F0 m 102 ls []) := by
          intro S27 H locs ls hs hM hl
          rw [hk102_27] at hs
          refine lv_aload_n hx hb dX6_item_102 rfl (lv_at hl 0 rfl) ?_
          refine lv_aload_n hx hb dX6_item_103 rfl (lv_at hl 0 rfl) ?_
          refine m_geti (v := .int (S27.1 29)) X hK hM 29 q1505 rfl rfl rfl dX6_item_104 ?_
          refine m_callz (rest := []) (av := fun ad => [.int (S27.1 29)]) X hK hA hM (met_wrong l (S27.1 29) _ _ hs) iX6_wrong q1802 ⟨Nat.le_of_ble_eq_true rfl, Nat.le_of_ble_eq_true rfl⟩ rfl hl.1 rfl (Nat.le_of_ble_eq_true rfl) dX6_item_107 (fun r30 S29 H locs br30 hs hM => ?_)
          exact m_retz X hK hM br30 hs dX6_item_110
        obtain ⟨k144_32, hk144_32, hs⟩ := jn_ex hs
        have Ek144_32 : ∀ (x31 : Int32) (S32 : MS) (H : Heap) (locs : List Loc) (ls : Array Slot), k144_32 x31 S32 → mI D dT A s.heap h ad S32 H locs → lv_has ls 4 [(0, .ref h), (3, .int x31)] → W p l e (mRm 2 44) s m args below meth c H locs 0 0 (MQ below (mQz D dT h ad K A) args s 0 0 A) (F0 m 144 ls []) := by
          intro x31 S32 H locs ls hs hM hl
          rw [hk144_32] at hs
          refine lv_aload_n hx hb dX6_item_144 rfl (lv_at hl 0 rfl) ?_
          refine lv_iload_n hx hb dX6_item_145 rfl (lv_at hl 1 rfl) ?_
          refine m_callz (rest := []) (av := fun ad => [.int x31]) X hK hA hM (met_wrong l x31 _ _ hs) iX6_wrong q1802 ⟨Nat.le_of_ble_eq_true rfl, Nat.le_of_ble_eq_true rfl⟩ rfl hl.1 rfl (Nat.le_of_ble_eq_true rfl) dX6_item_146 (fun r35 S34 H locs br35 hs hM => ?_)
          exact m_retz X hK hM br35 hs dX6_item_149
        have Lm_item_l57 : ∀ (n57_37 : Nat) (x36 : Int32) (S37 : MS) (H : Heap) (locs : List Loc) (ls : Array Slot), m_item_l57 K r6 k166_7 k102_27 k144_32 n57_37 x36 S37 → mI D dT A s.heap h ad S37 H locs → lv_has ls 4 [(0, .ref h), (1, .int r6), (2, .int x36)] → W p l e (mRm 2 44) s m args below meth c H locs 0 0 (MQ below (mQz D dT h ad K A) args s 0 0 A) (F0 m 57 ls []) := by
          intro n57_37
          induction n57_37 with
          | zero =>
            intro x36 S37 H locs ls hs
            exact False.elim hs
          | succ n57_37 ihm_item_l57 =>
            intro x36 S37 H locs ls hs hM hl
            rw [m_item_l57_s] at hs
            refine lv_iload_n hx hb dX6_item_57 rfl (lv_at hl 2 rfl) ?_
            refine lv_aload_n hx hb dX6_item_58 rfl (lv_at hl 0 rfl) ?_
            refine m_geti (v := .ref (ad 26)) X hK hM 26 q1502 rfl rfl rfl dX6_item_59 ?_
            refine lv_iload_n hx hb dX6_item_62 rfl (lv_at hl 1 rfl) ?_
            obtain ⟨v39, ev39, hs⟩ := hs
            refine m_iald X hK hM rfl ev39 dX6_item_63 ?_
            refine lv_icmp_ge (tgt := 166) hx hb dX6_item_64 (by decide) (fun c51 => ?_) (fun c51 => ?_)
            · replace hs := ifp c51 hs
              exact Ek166_7 _ _ _ _ hs hM (lv_sub hl [0, 1] rfl)
            · replace hs := ifn c51 hs
              refine lv_iload_n hx hb dX6_item_67 rfl (lv_at hl 2 rfl) ?_
              obtain ⟨k121_40, hk121_40, hs⟩ := jn_ex hs
              have Ek121_40 : ∀ (S40 : MS) (H : Heap) (locs : List Loc) (ls : Array Slot), k121_40 S40 → mI D dT A s.heap h ad S40 H locs → lv_has ls 4 [(0, .ref h), (1, .int r6), (2, .int x36)] → W p l e (mRm 2 44) s m args below meth c H locs 0 0 (MQ below (mQz D dT h ad K A) args s 0 0 A) (F0 m 121 ls []) := by
                intro S40 H locs ls hs hM hl
                rw [hk121_40] at hs
                refine lv_aload_n hx hb dX6_item_121 rfl (lv_at hl 0 rfl) ?_
                refine m_geti (v := .int (S40.1 29)) X hK hM 29 q1505 rfl rfl rfl dX6_item_122 ?_
                refine lv_istore_n (lv' := [(3, .int (S40.1 29)), (0, .ref h), (1, .int r6), (2, .int x36)]) hx hb dX6_item_125 rfl hl (by decide) rfl (fun ls hl => ?_)
                refine lv_aload_n hx hb dX6_item_126 rfl (lv_at hl 1 rfl) ?_
                refine m_callz (rest := []) (av := fun ad => []) X hK hA hM (met_reads l  _ _ hs) iX6_reads q1810 ⟨Nat.le_of_ble_eq_true rfl, Nat.le_of_ble_eq_true rfl⟩ rfl hl.1 rfl (Nat.le_of_ble_eq_true rfl) dX6_item_127 (fun r42 S41 H locs br42 hs hM => ?_)
                refine lv_if_ne (tgt := 135) hx hb dX6_item_130 (by decide) (fun c46 => ?_) (fun c46 => ?_)
                · replace hs := ifn c46 hs
                  refine lv_aload_n hx hb dX6_item_135 rfl (lv_at hl 1 rfl) ?_
                  refine lv_iload_n hx hb dX6_item_136 rfl (lv_at hl 2 rfl) ?_
                  refine lv_iload_n hx hb dX6_item_137 rfl (lv_at hl 3 rfl) ?_
                  refine m_callz (rest := []) (av := fun ad => [.int r6, .int x36]) X hK hA hM (met_isSo l r6 x36 _ _ hs) iX6_isSo q1818 ⟨Nat.le_of_ble_eq_true rfl, Nat.le_of_ble_eq_true rfl⟩ rfl hl.1 rfl (Nat.le_of_ble_eq_true rfl) dX6_item_138 (fun r44 S43 H locs br44 hs hM => ?_)
                  refine lv_if_ne (tgt := 150) hx hb dX6_item_141 (by decide) (fun c45 => ?_) (fun c45 => ?_)
                  · replace hs := ifn c45 hs
                    refine lv_aload_n hx hb dX6_item_150 rfl (lv_at hl 1 rfl) ?_
                    refine m_geti (v := .ref (ad 27)) X hK hM 27 q1503 rfl rfl rfl dX6_item_151 ?_
                    refine lv_iload_n hx hb dX6_item_154 rfl (lv_at hl 3 rfl) ?_
                    refine lv_aload_n hx hb dX6_item_155 rfl (lv_at hl 1 rfl) ?_
                    refine m_geti (v := .int (S43.1 31)) X hK hM 31 q1507 rfl rfl rfl dX6_item_156 ?_
                    obtain ⟨S45, eS45, hs⟩ := hs
                    refine m_iast X hK hM rfl eS45 dX6_item_159 (fun H locs hM => ?_)
                    refine lv_iinc (v := (x36 + 1)) (lv' := [(2, .int (x36 + 1)), (3, .int (S40.1 29)), (0, .ref h), (1, .int r6)]) hx hb dX6_item_160 hl (k := 3) rfl (congrArg (fun z => x36 + z) (show Int32.ofInt (1) = 1 by decide)) (by decide) rfl (fun ls hl => ?_)
                    refine lv_goto (tgt := 57) hx hb dX6_item_163 (by decide) ?_
                    exact ihm_item_l57 _ _ _ _ _ hs hM (lv_sub hl [2, 3, 0] rfl)
                  · replace hs := ifp c45 hs
                    exact Ek144_32 _ _ _ _ _ hs hM (lv_sub hl [1, 0] rfl)
                · replace hs := ifp c46 hs
                  refine lv_iconst (v := 0) hx hb dX6_item_133 (by decide) ?_
                  exact m_retz X hK hM isB0 hs dX6_item_134
              refine lv_if_le (tgt := 121) hx hb dX6_item_68 (by decide) (fun c50 => ?_) (fun c50 => ?_)
              · replace hs := ifp c50 hs
                exact Ek121_40 _ _ _ _ hs hM hl
              · replace hs := ifn c50 hs
                refine lv_aload_n hx hb dX6_item_71 rfl (lv_at hl 0 rfl) ?_
                refine m_geti (v := .int (S37.1 29)) X hK hM 29 q1505 rfl rfl rfl dX6_item_72 ?_
                refine lv_aload_n hx hb dX6_item_75 rfl (lv_at hl 0 rfl) ?_
                refine m_geti (v := .int (S37.1 30)) X hK hM 30 q1506 rfl rfl rfl dX6_item_76 ?_
                refine lv_icmp_ge (tgt := 102) hx hb dX6_item_79 (by decide) (fun c49 => ?_) (fun c49 => ?_)
                · replace hs := ifp c49 hs
                  exact Ek102_27 _ _ _ _ hs hM (lv_sub hl [0] rfl)
                · replace hs := ifn c49 hs
                  refine lv_aload_n hx hb dX6_item_82 rfl (lv_at hl 0 rfl) ?_
                  refine m_geti (v := .ref (ad 23)) X hK hM 23 q1499 rfl rfl rfl dX6_item_83 ?_
                  refine lv_aload_n hx hb dX6_item_86 rfl (lv_at hl 0 rfl) ?_
                  refine m_geti (v := .int (S37.1 28)) X hK hM 28 q1504 rfl rfl rfl dX6_item_87 ?_
                  refine lv_aload_n hx hb dX6_item_90 rfl (lv_at hl 0 rfl) ?_
                  refine m_geti (v := .int (S37.1 29)) X hK hM 29 q1505 rfl rfl rfl dX6_item_91 ?_
                  refine lv_iadd hx hb dX6_item_94 ?_
                  obtain ⟨v48, ev48, hs⟩ := hs
                  refine m_lald X hK hM rfl ev48 dX6_item_95 ?_
                  refine lv_l2i (v := ((v48 : Int64).toInt32)) hx hb dX6_item_96 rfl ?_
                  refine lv_bipush (v := 32) hx hb dX6_item_97 (by decide) ?_
                  refine lv_icmp_eq (tgt := 111) hx hb dX6_item_99 (by decide) (fun c48 => ?_) (fun c48 => ?_)
                  · replace hs := ifp c48 hs
                    refine lv_aload_n hx hb dX6_item_111 rfl (lv_at hl 0 rfl) ?_
                    refine lv_dup hx hb dX6_item_112 rfl ?_
                    refine m_geti (v := .int (S37.1 29)) X hK hM 29 q1505 rfl rfl rfl dX6_item_113 ?_
                    refine lv_iconst (v := 1) hx hb dX6_item_116 (by decide) ?_
                    refine lv_iadd hx hb dX6_item_117 ?_
                    refine m_puti X hK hM 29 q1505 rfl rfl rfl rfl rfl rfl dX6_item_118 (fun H locs hM => ?_)
                    exact Ek121_40 _ _ _ _ hs hM hl
                  · replace hs := ifn c48 hs
                    exact Ek102_27 _ _ _ _ hs hM (lv_sub hl [0] rfl)
        exact Lm_item_l57 NF _ _ _ _ _ hs hM (lv_sub hl [2, 1, 0] rfl)
      · replace hs := ifp c52 hs
        refine lv_iconst (v := 0) hx hb dX6_item_53 (by decide) ?_
        exact m_retz X hK hM isB0 hs dX6_item_54
    refine lv_if_eq (tgt := 43) hx hb dX6_item_22 (by decide) (fun c56 => ?_) (fun c56 => ?_)
    · replace hs := ifp c56 hs
      exact Ek43_4 _ _ _ hs hM hl
    · replace hs := ifn c56 hs
      refine lv_aload_n hx hb dX6_item_25 rfl (lv_at hl 0 rfl) ?_
      refine m_geti (v := .int (S3.1 1)) X hK hM 1 q1477 rfl rfl rfl dX6_item_26 ?_
      refine lv_bipush (v := 8) hx hb dX6_item_29 (by decide) ?_
      refine lv_icmp_ne (tgt := 43) hx hb dX6_item_31 (by decide) (fun c55 => ?_) (fun c55 => ?_)
      · replace hs := ifn c55 hs
        exact Ek43_4 _ _ _ hs hM hl
      · replace hs := ifp c55 hs
        refine lv_aload_n hx hb dX6_item_34 rfl (lv_at hl 0 rfl) ?_
        refine lv_aload_n hx hb dX6_item_35 rfl (lv_at hl 0 rfl) ?_
        refine m_geti (v := .int (S3.1 29)) X hK hM 29 q1505 rfl rfl rfl dX6_item_36 ?_
        refine m_callz (rest := []) (av := fun ad => [.int (S3.1 29)]) X hK hA hM (met_wrong l (S3.1 29) _ _ hs) iX6_wrong q1802 ⟨Nat.le_of_ble_eq_true rfl, Nat.le_of_ble_eq_true rfl⟩ rfl hl.1 rfl (Nat.le_of_ble_eq_true rfl) dX6_item_39 (fun r55 S54 H locs br55 hs hM => ?_)
        exact m_retz X hK hM br55 hs dX6_item_42
  obtain ⟨k34_58, hk34_58, hs⟩ := jn_ex hs
  have Ek34_58 : ∀ (S58 : MS) (H : Heap) (locs : List Loc) (ls : Array Slot), k34_58 S58 → mI D dT A s.heap h ad S58 H locs → lv_has ls 4 [(0, .ref h)] → W p l e (mRm 2 44) s m args below meth c H locs 0 0 (MQ below (mQz D dT h ad K A) args s 0 0 A) (F0 m 34 ls []) := by
    intro S58 H locs ls hs hM hl
    rw [hk34_58] at hs
    refine lv_aload_n hx hb dX6_item_34 rfl (lv_at hl 0 rfl) ?_
    refine lv_aload_n hx hb dX6_item_35 rfl (lv_at hl 0 rfl) ?_
    refine m_geti (v := .int (S58.1 29)) X hK hM 29 q1505 rfl rfl rfl dX6_item_36 ?_
    refine m_callz (rest := []) (av := fun ad => [.int (S58.1 29)]) X hK hA hM (met_wrong l (S58.1 29) _ _ hs) iX6_wrong q1802 ⟨Nat.le_of_ble_eq_true rfl, Nat.le_of_ble_eq_true rfl⟩ rfl hl.1 rfl (Nat.le_of_ble_eq_true rfl) dX6_item_39 (fun r60 S59 H locs br60 hs hM => ?_)
    exact m_retz X hK hM br60 hs dX6_item_42
  refine lv_if_eq (tgt := 17) hx hb dX6_item_5 (by decide) (fun c61 => ?_) (fun c61 => ?_)
  · replace hs := ifp c61 hs
    exact Ek17_2 _ _ _ hs hM hl
  · replace hs := ifn c61 hs
    refine lv_aload_n hx hb dX6_item_8 rfl (lv_at hl 0 rfl) ?_
    refine m_geti (v := .int (S1.1 0)) X hK hM 0 q1476 rfl rfl rfl dX6_item_9 ?_
    refine lv_bipush (v := 8) hx hb dX6_item_12 (by decide) ?_
    refine lv_icmp_eq (tgt := 34) hx hb dX6_item_14 (by decide) (fun c60 => ?_) (fun c60 => ?_)
    · replace hs := ifp c60 hs
      exact Ek34_58 _ _ _ _ hs hM hl
    · replace hs := ifn c60 hs
      exact Ek17_2 _ _ _ hs hM hl
def m_wanted (a1 : Int32) (S : MS) (K : Int32 → MS → Prop) : Prop := m_isShelf a1 S (fun r2 S1 => (if r2 = 0 then K (-1) S1 else obd (mald S1 19 a1) (fun v3 => (if v3 = 2 then K (-2) S1 else obd (mald S1 19 a1) (fun v4 => (if v4 = 0 then K (-3) S1 else K 0 S1))))))
theorem iX6_wanted : mInf yX6_wanted cX6_wanted 2 (some .int) 1 := ⟨q1784, qs55, q1785, by decide +kernel⟩
set_option maxHeartbeats 4000000 in
theorem met_wanted (l : Launch) (a1 : Int32) (S : MS) (K : Int32 → MS → Prop) (hs : m_wanted a1 S K) : mMeti l yX6_wanted cX6_wanted 2 1 21 S (fun ad => [.int a1]) K := by
  intro D dT h ad sz
  refine mEnter (Qc := mQi D dT h ad K) (by decide) rfl (by rfl) ?_
  intro p e s m args below meth c A ls X hK hA hM hl
  have hx := X.1
  have hb := X.2.1
  have hts := X.2.2.2.2.1
  have hown := X.2.2.2.2.2.1
  have hl : lv_has ls 2 [(0, .ref h), (1, .int a1)] := hl
  unfold m_wanted at hs
  refine lv_aload_n hx hb dX6_wanted_0 rfl (lv_at hl 0 rfl) ?_
  refine lv_iload_n hx hb dX6_wanted_1 rfl (lv_at hl 1 rfl) ?_
  refine m_callz (rest := []) (av := fun ad => [.int a1]) X hK hA hM (met_isShelf l a1 _ _ hs) iX6_isShelf q1658 ⟨Nat.le_of_ble_eq_true rfl, Nat.le_of_ble_eq_true rfl⟩ rfl hl.1 rfl (Nat.le_of_ble_eq_true rfl) dX6_wanted_2 (fun r2 S1 H locs br2 hs hM => ?_)
  refine lv_if_ne (tgt := 12) hx hb dX6_wanted_5 (by decide) (fun c6 => ?_) (fun c6 => ?_)
  · replace hs := ifn c6 hs
    refine lv_aload_n hx hb dX6_wanted_12 rfl (lv_at hl 0 rfl) ?_
    refine m_geti (v := .ref (ad 19)) X hK hM 19 q1495 rfl rfl rfl dX6_wanted_13 ?_
    refine lv_iload_n hx hb dX6_wanted_16 rfl (lv_at hl 1 rfl) ?_
    obtain ⟨v3, ev3, hs⟩ := hs
    refine m_iald X hK hM rfl ev3 dX6_wanted_17 ?_
    refine lv_iconst (v := 2) hx hb dX6_wanted_18 (by decide) ?_
    refine lv_icmp_ne (tgt := 27) hx hb dX6_wanted_19 (by decide) (fun c5 => ?_) (fun c5 => ?_)
    · replace hs := ifn c5 hs
      refine lv_aload_n hx hb dX6_wanted_27 rfl (lv_at hl 0 rfl) ?_
      refine m_geti (v := .ref (ad 19)) X hK hM 19 q1495 rfl rfl rfl dX6_wanted_28 ?_
      refine lv_iload_n hx hb dX6_wanted_31 rfl (lv_at hl 1 rfl) ?_
      obtain ⟨v4, ev4, hs⟩ := hs
      refine m_iald X hK hM rfl ev4 dX6_wanted_32 ?_
      refine lv_if_ne (tgt := 41) hx hb dX6_wanted_33 (by decide) (fun c4 => ?_) (fun c4 => ?_)
      · replace hs := ifn c4 hs
        refine lv_iconst (v := 0) hx hb dX6_wanted_41 (by decide) ?_
        exact m_reti X hK hM hs dX6_wanted_42
      · replace hs := ifp c4 hs
        refine lv_bipush (v := (-3)) hx hb dX6_wanted_36 (by decide) ?_
        refine lv_goto (tgt := 42) hx hb dX6_wanted_38 (by decide) ?_
        exact m_reti X hK hM hs dX6_wanted_42
    · replace hs := ifp c5 hs
      refine lv_bipush (v := (-2)) hx hb dX6_wanted_22 (by decide) ?_
      refine lv_goto (tgt := 42) hx hb dX6_wanted_24 (by decide) ?_
      exact m_reti X hK hM hs dX6_wanted_42
  · replace hs := ifp c6 hs
    refine lv_iconst (v := (-1)) hx hb dX6_wanted_8 (by decide) ?_
    refine lv_goto (tgt := 42) hx hb dX6_wanted_9 (by decide) ?_
    exact m_reti X hK hM hs dX6_wanted_42
def m_field_l62 (k133_9 : Int32 → Int32 → MS → Prop) : Nat → Int32 → Int32 → MS → Prop
  | 0, _, _, _ => False
  | n62_17 + 1, x15, x16, S17 => (if x16 = 0 then k133_9 x15 x16 S17 else (if (S17.1 30) ≤ (S17.1 29) then k133_9 x15 x16 S17 else obd (mlld S17 23 ((S17.1 28) + (S17.1 29))) (fun v19 => (if ((v19 : Int64).toInt32) = 59 then m_item  (mset S17 29 ((S17.1 29) + 1)) (fun r21 S20 => m_field_l62 k133_9 n62_17 (x15 + 1) r21 S20) else m_wrong (S17.1 29) S17 (fun r23 S22 => m_field_l62 k133_9 n62_17 x15 r23 S22)))))
theorem m_field_l62_s (k133_9 : Int32 → Int32 → MS → Prop) (n62_17 : Nat) (x15 : Int32) (x16 : Int32) (S17 : MS) : m_field_l62 k133_9 (n62_17 + 1) x15 x16 S17 = ((if x16 = 0 then k133_9 x15 x16 S17 else (if (S17.1 30) ≤ (S17.1 29) then k133_9 x15 x16 S17 else obd (mlld S17 23 ((S17.1 28) + (S17.1 29))) (fun v19 => (if ((v19 : Int64).toInt32) = 59 then m_item  (mset S17 29 ((S17.1 29) + 1)) (fun r21 S20 => m_field_l62 k133_9 n62_17 (x15 + 1) r21 S20) else m_wrong (S17.1 29) S17 (fun r23 S22 => m_field_l62 k133_9 n62_17 x15 r23 S22)))))) := rfl
def m_field (a1 : Int32) (S : MS) (K : Int32 → MS → Prop) : Prop := m_wanted a1 S (fun r2 S1 => (if r2 = 0 then m_all 33 0 S1 (fun S3 => obd (mald (mset (mset S3 28 (160 * a1)) 29 0) 21 a1) (fun v4 => m_item  (mset (mset (mset (mset S3 28 (160 * a1)) 29 0) 30 v4) 9 (-1)) (fun r6 S5 => jn (fun (x7 : Int32) (x8 : Int32) (S9 : MS) => (if x8 = 0 then m_all 33 1 S9 (fun S11 => m_no (-6) (mset S11 9 (S11.1 32)) (fun r13 S12 => K r13 S12)) else K x7 S9)) (fun k133_9 => m_field_l62 k133_9 NF 1 r6 S5)))) else m_no r2 S1 (fun r28 S27 => K r28 S27)))
theorem iX6_field : mInf yX6_field cX6_field 5 (some .int) 1 := ⟨q1779, q1780, q1781, by decide +kernel⟩
set_option maxHeartbeats 4000000 in
theorem met_field (l : Launch) (a1 : Int32) (S : MS) (K : Int32 → MS → Prop) (hs : m_field a1 S K) : mMeti l yX6_field cX6_field 5 3 67 S (fun ad => [.int a1]) K := by
  intro D dT h ad sz
  refine mEnter (Qc := mQi D dT h ad K) (by decide) rfl (by rfl) ?_
  intro p e s m args below meth c A ls X hK hA hM hl
  have hx := X.1
  have hb := X.2.1
  have hts := X.2.2.2.2.1
  have hown := X.2.2.2.2.2.1
  have hl : lv_has ls 5 [(0, .ref h), (1, .int a1)] := hl
  unfold m_field at hs
  refine lv_aload_n hx hb dX6_field_0 rfl (lv_at hl 0 rfl) ?_
  refine lv_iload_n hx hb dX6_field_1 rfl (lv_at hl 1 rfl) ?_
  refine m_calli (rest := []) (av := fun ad => [.int a1]) X hK hA hM (met_wanted l a1 _ _ hs) iX6_wanted q1782 ⟨Nat.le_of_ble_eq_true rfl, Nat.le_of_ble_eq_true rfl⟩ rfl hl.1 rfl (Nat.le_of_ble_eq_true rfl) dX6_field_2 (fun r2 S1 H locs hs hM => ?_)
  refine lv_istore_n (lv' := [(2, .int r2), (0, .ref h), (1, .int a1)]) hx hb dX6_field_5 rfl hl (by decide) rfl (fun ls hl => ?_)
  refine lv_iload_n hx hb dX6_field_6 rfl (lv_at hl 0 rfl) ?_
  refine lv_if_eq (tgt := 16) hx hb dX6_field_7 (by decide) (fun c28 => ?_) (fun c28 => ?_)
  · replace hs := ifp c28 hs
    refine lv_aload_n hx hb dX6_field_16 rfl (lv_at hl 1 rfl) ?_
    refine lv_aload_n hx hb dX6_field_17 rfl (lv_at hl 1 rfl) ?_
    refine m_geti (v := .ref (ad 33)) X hK hM 33 q1509 rfl rfl rfl dX6_field_18 ?_
    refine lv_iconst (v := 0) hx hb dX6_field_21 (by decide) ?_
    refine m_callv (rest := []) (av := fun ad => [.ref (ad 33), .int 0]) X hK hA hM (met_all l 33 0 rfl _ _ hs) iX6_all q1786 ⟨Nat.le_of_ble_eq_true rfl, Nat.le_of_ble_eq_true rfl⟩ rfl hl.1 rfl (Nat.le_of_ble_eq_true rfl) dX6_field_22 (fun S3 H locs hs hM => ?_)
    refine lv_aload_n hx hb dX6_field_25 rfl (lv_at hl 1 rfl) ?_
    refine lv_sipush (v := 160) hx hb dX6_field_26 (by decide) ?_
    refine lv_iload_n hx hb dX6_field_29 rfl (lv_at hl 2 rfl) ?_
    refine lv_imul hx hb dX6_field_30 ?_
    refine m_puti X hK hM 28 q1504 rfl rfl rfl rfl rfl rfl dX6_field_31 (fun H locs hM => ?_)
    refine lv_aload_n hx hb dX6_field_34 rfl (lv_at hl 1 rfl) ?_
    refine lv_iconst (v := 0) hx hb dX6_field_35 (by decide) ?_
    refine m_puti X hK hM 29 q1505 rfl rfl rfl rfl rfl rfl dX6_field_36 (fun H locs hM => ?_)
    refine lv_aload_n hx hb dX6_field_39 rfl (lv_at hl 1 rfl) ?_
    refine lv_aload_n hx hb dX6_field_40 rfl (lv_at hl 1 rfl) ?_
    refine m_geti (v := .ref (ad 21)) X hK hM 21 q1497 rfl rfl rfl dX6_field_41 ?_
    refine lv_iload_n hx hb dX6_field_44 rfl (lv_at hl 2 rfl) ?_
    obtain ⟨v4, ev4, hs⟩ := hs
    refine m_iald X hK hM rfl ev4 dX6_field_45 ?_
    refine m_puti X hK hM 30 q1506 rfl rfl rfl rfl rfl rfl dX6_field_46 (fun H locs hM => ?_)
    refine lv_aload_n hx hb dX6_field_49 rfl (lv_at hl 1 rfl) ?_
    refine lv_iconst (v := (-1)) hx hb dX6_field_50 (by decide) ?_
    refine m_puti X hK hM 9 q1485 rfl rfl rfl rfl rfl rfl dX6_field_51 (fun H locs hM => ?_)
    refine lv_iconst (v := 1) hx hb dX6_field_54 (by decide) ?_
    refine lv_istore_n (lv' := [(3, .int 1), (2, .int r2), (0, .ref h), (1, .int a1)]) hx hb dX6_field_55 rfl hl (by decide) rfl (fun ls hl => ?_)
    refine lv_aload_n hx hb dX6_field_56 rfl (lv_at hl 2 rfl) ?_
    refine m_callz (rest := []) (av := fun ad => []) X hK hA hM (met_item l  _ _ hs) iX6_item q1794 ⟨Nat.le_of_ble_eq_true rfl, Nat.le_of_ble_eq_true rfl⟩ rfl hl.1 rfl (Nat.le_of_ble_eq_true rfl) dX6_field_57 (fun r6 S5 H locs br6 hs hM => ?_)
    refine lv_istore (lv' := [(4, .int r6), (3, .int 1), (2, .int r2), (0, .ref h), (1, .int a1)]) hx hb dX6_field_60 hl (by decide) rfl (fun ls hl => ?_)
    obtain ⟨k133_9, hk133_9, hs⟩ := jn_ex hs
    have Ek133_9 : ∀ (x7 : Int32) (x8 : Int32) (S9 : MS) (H : Heap) (locs : List Loc) (ls : Array Slot), k133_9 x7 x8 S9 → mI D dT A s.heap h ad S9 H locs → lv_has ls 5 [(0, .ref h), (3, .int x7), (4, .int x8)] → W p l e (mRm 3 67) s m args below meth c H locs 0 0 (MQ below (mQi D dT h ad K A) args s 0 0 A) (F0 m 133 ls []) := by
      intro x7 x8 S9 H locs ls hs hM hl
      rw [hk133_9] at hs
      refine lv_iload hx hb dX6_field_133 (lv_at hl 2 rfl) ?_
      refine lv_if_eq (tgt := 140) hx hb dX6_field_135 (by decide) (fun c13 => ?_) (fun c13 => ?_)
      · replace hs := ifp c13 hs
        refine lv_aload_n hx hb dX6_field_140 rfl (lv_at hl 0 rfl) ?_
        refine lv_aload_n hx hb dX6_field_141 rfl (lv_at hl 0 rfl) ?_
        refine m_geti (v := .ref (ad 33)) X hK hM 33 q1509 rfl rfl rfl dX6_field_142 ?_
        refine lv_iconst (v := 1) hx hb dX6_field_145 (by decide) ?_
        refine m_callv (rest := []) (av := fun ad => [.ref (ad 33), .int 1]) X hK hA hM (met_all l 33 1 rfl _ _ hs) iX6_all q1786 ⟨Nat.le_of_ble_eq_true rfl, Nat.le_of_ble_eq_true rfl⟩ rfl hl.1 rfl (Nat.le_of_ble_eq_true rfl) dX6_field_146 (fun S11 H locs hs hM => ?_)
        refine lv_aload_n hx hb dX6_field_149 rfl (lv_at hl 0 rfl) ?_
        refine lv_aload_n hx hb dX6_field_150 rfl (lv_at hl 0 rfl) ?_
        refine m_geti (v := .int (S11.1 32)) X hK hM 32 q1508 rfl rfl rfl dX6_field_151 ?_
        refine m_puti X hK hM 9 q1485 rfl rfl rfl rfl rfl rfl dX6_field_154 (fun H locs hM => ?_)
        refine lv_aload_n hx hb dX6_field_157 rfl (lv_at hl 0 rfl) ?_
        refine lv_bipush (v := (-6)) hx hb dX6_field_158 (by decide) ?_
        refine m_calli (rest := []) (av := fun ad => [.int (-6)]) X hK hA hM (met_no l (-6) _ _ hs) iX6_no q1662 ⟨Nat.le_of_ble_eq_true rfl, Nat.le_of_ble_eq_true rfl⟩ rfl hl.1 rfl (Nat.le_of_ble_eq_true rfl) dX6_field_160 (fun r13 S12 H locs hs hM => ?_)
        exact m_reti X hK hM hs dX6_field_163
      · replace hs := ifn c13 hs
        refine lv_iload_n hx hb dX6_field_138 rfl (lv_at hl 1 rfl) ?_
        exact m_reti X hK hM hs dX6_field_139
    have Lm_field_l62 : ∀ (n62_17 : Nat) (x15 : Int32) (x16 : Int32) (S17 : MS) (H : Heap) (locs : List Loc) (ls : Array Slot), m_field_l62 k133_9 n62_17 x15 x16 S17 → mI D dT A s.heap h ad S17 H locs → lv_has ls 5 [(0, .ref h), (3, .int x15), (4, .int x16)] → W p l e (mRm 3 67) s m args below meth c H locs 0 0 (MQ below (mQi D dT h ad K A) args s 0 0 A) (F0 m 62 ls []) := by
      intro n62_17
      induction n62_17 with
      | zero =>
        intro x15 x16 S17 H locs ls hs
        exact False.elim hs
      | succ n62_17 ihm_field_l62 =>
        intro x15 x16 S17 H locs ls hs hM hl
        rw [m_field_l62_s] at hs
        refine lv_iload hx hb dX6_field_62 (lv_at hl 2 rfl) ?_
        refine lv_if_eq (tgt := 133) hx hb dX6_field_64 (by decide) (fun c25 => ?_) (fun c25 => ?_)
        · replace hs := ifp c25 hs
          exact Ek133_9 _ _ _ _ _ _ hs hM hl
        · replace hs := ifn c25 hs
          refine lv_aload_n hx hb dX6_field_67 rfl (lv_at hl 0 rfl) ?_
          refine m_geti (v := .int (S17.1 29)) X hK hM 29 q1505 rfl rfl rfl dX6_field_68 ?_
          refine lv_aload_n hx hb dX6_field_71 rfl (lv_at hl 0 rfl) ?_
          refine m_geti (v := .int (S17.1 30)) X hK hM 30 q1506 rfl rfl rfl dX6_field_72 ?_
          refine lv_icmp_ge (tgt := 133) hx hb dX6_field_75 (by decide) (fun c24 => ?_) (fun c24 => ?_)
          · replace hs := ifp c24 hs
            exact Ek133_9 _ _ _ _ _ _ hs hM hl
          · replace hs := ifn c24 hs
            refine lv_aload_n hx hb dX6_field_78 rfl (lv_at hl 0 rfl) ?_
            refine m_geti (v := .ref (ad 23)) X hK hM 23 q1499 rfl rfl rfl dX6_field_79 ?_
            refine lv_aload_n hx hb dX6_field_82 rfl (lv_at hl 0 rfl) ?_
            refine m_geti (v := .int (S17.1 28)) X hK hM 28 q1504 rfl rfl rfl dX6_field_83 ?_
            refine lv_aload_n hx hb dX6_field_86 rfl (lv_at hl 0 rfl) ?_
            refine m_geti (v := .int (S17.1 29)) X hK hM 29 q1505 rfl rfl rfl dX6_field_87 ?_
            refine lv_iadd hx hb dX6_field_90 ?_
            obtain ⟨v19, ev19, hs⟩ := hs
            refine m_lald X hK hM rfl ev19 dX6_field_91 ?_
            refine lv_l2i (v := ((v19 : Int64).toInt32)) hx hb dX6_field_92 rfl ?_
            refine lv_bipush (v := 59) hx hb dX6_field_93 (by decide) ?_
            refine lv_icmp_eq (tgt := 111) hx hb dX6_field_95 (by decide) (fun c23 => ?_) (fun c23 => ?_)
            · replace hs := ifp c23 hs
              refine lv_aload_n hx hb dX6_field_111 rfl (lv_at hl 0 rfl) ?_
              refine lv_dup hx hb dX6_field_112 rfl ?_
              refine m_geti (v := .int (S17.1 29)) X hK hM 29 q1505 rfl rfl rfl dX6_field_113 ?_
              refine lv_iconst (v := 1) hx hb dX6_field_116 (by decide) ?_
              refine lv_iadd hx hb dX6_field_117 ?_
              refine m_puti X hK hM 29 q1505 rfl rfl rfl rfl rfl rfl dX6_field_118 (fun H locs hM => ?_)
              refine lv_iinc (v := (x15 + 1)) (lv' := [(3, .int (x15 + 1)), (0, .ref h), (4, .int x16)]) hx hb dX6_field_121 hl (k := 1) rfl (congrArg (fun z => x15 + z) (show Int32.ofInt (1) = 1 by decide)) (by decide) rfl (fun ls hl => ?_)
              refine lv_aload_n hx hb dX6_field_124 rfl (lv_at hl 1 rfl) ?_
              refine m_callz (rest := []) (av := fun ad => []) X hK hA hM (met_item l  _ _ hs) iX6_item q1794 ⟨Nat.le_of_ble_eq_true rfl, Nat.le_of_ble_eq_true rfl⟩ rfl hl.1 rfl (Nat.le_of_ble_eq_true rfl) dX6_field_125 (fun r21 S20 H locs br21 hs hM => ?_)
              refine lv_istore (lv' := [(4, .int r21), (3, .int (x15 + 1)), (0, .ref h)]) hx hb dX6_field_128 hl (by decide) rfl (fun ls hl => ?_)
              refine lv_goto (tgt := 62) hx hb dX6_field_130 (by decide) ?_
              exact ihm_field_l62 _ _ _ _ _ _ hs hM (lv_sub hl [2, 1, 0] rfl)
            · replace hs := ifn c23 hs
              refine lv_aload_n hx hb dX6_field_98 rfl (lv_at hl 0 rfl) ?_
              refine lv_aload_n hx hb dX6_field_99 rfl (lv_at hl 0 rfl) ?_
              refine m_geti (v := .int (S17.1 29)) X hK hM 29 q1505 rfl rfl rfl dX6_field_100 ?_
              refine m_callz (rest := []) (av := fun ad => [.int (S17.1 29)]) X hK hA hM (met_wrong l (S17.1 29) _ _ hs) iX6_wrong q1802 ⟨Nat.le_of_ble_eq_true rfl, Nat.le_of_ble_eq_true rfl⟩ rfl hl.1 rfl (Nat.le_of_ble_eq_true rfl) dX6_field_103 (fun r23 S22 H locs br23 hs hM => ?_)
              refine lv_istore (lv' := [(4, .int r23), (0, .ref h), (3, .int x15)]) hx hb dX6_field_106 hl (by decide) rfl (fun ls hl => ?_)
              refine lv_goto (tgt := 62) hx hb dX6_field_108 (by decide) ?_
              exact ihm_field_l62 _ _ _ _ _ _ hs hM (lv_sub hl [1, 2, 0] rfl)
    exact Lm_field_l62 NF _ _ _ _ _ _ hs hM (lv_sub hl [3, 1, 0] rfl)
  · replace hs := ifn c28 hs
    refine lv_aload_n hx hb dX6_field_10 rfl (lv_at hl 1 rfl) ?_
    refine lv_iload_n hx hb dX6_field_11 rfl (lv_at hl 0 rfl) ?_
    refine m_calli (rest := []) (av := fun ad => [.int r2]) X hK hA hM (met_no l r2 _ _ hs) iX6_no q1662 ⟨Nat.le_of_ble_eq_true rfl, Nat.le_of_ble_eq_true rfl⟩ rfl hl.1 rfl (Nat.le_of_ble_eq_true rfl) dX6_field_12 (fun r28 S27 H locs hs hM => ?_)
    exact m_reti X hK hM hs dX6_field_15
def m_fault (S : MS) (K : Int32 → MS → Prop) : Prop := K (S.1 9) S
theorem iX6_fault : mInf yX6_fault cX6_fault 1 (some .int) 0 := ⟨q1823, q1824, q1825, by decide +kernel⟩
set_option maxHeartbeats 4000000 in
theorem met_fault (l : Launch)  (S : MS) (K : Int32 → MS → Prop) (hs : m_fault  S K) : mMeti l yX6_fault cX6_fault 1 0 0 S (fun ad => []) K := by
  intro D dT h ad sz
  refine mEnter (Qc := mQi D dT h ad K) (by decide) rfl (by rfl) ?_
  intro p e s m args below meth c A ls X hK hA hM hl
  have hx := X.1
  have hb := X.2.1
  have hts := X.2.2.2.2.1
  have hown := X.2.2.2.2.2.1
  have hl : lv_has ls 1 [(0, .ref h)] := hl
  unfold m_fault at hs
  refine lv_aload_n hx hb dX6_fault_0 rfl (lv_at hl 0 rfl) ?_
  refine m_geti (v := .int (S.1 9)) X hK hM 9 q1485 rfl rfl rfl dX6_fault_1 ?_
  exact m_reti X hK hM hs dX6_fault_4
def m_falls (S : MS) (K : MS → Prop) : Prop := K (mset (mset S 45 (S.1 3)) 46 ((S.1 46) + 1))
theorem iX6_falls : mInf yX6_falls cX6_falls 1 none 0 := ⟨q1852, qs70, q1853, by decide +kernel⟩
set_option maxHeartbeats 4000000 in
theorem met_falls (l : Launch)  (S : MS) (K : MS → Prop) (hs : m_falls  S K) : mMetv l yX6_falls cX6_falls 1 0 0 S (fun ad => []) K := by
  intro D dT h ad sz
  refine mEnter (Qc := mQv D dT h ad K) (by decide) rfl (by rfl) ?_
  intro p e s m args below meth c A ls X hK hA hM hl
  have hx := X.1
  have hb := X.2.1
  have hts := X.2.2.2.2.1
  have hown := X.2.2.2.2.2.1
  have hl : lv_has ls 1 [(0, .ref h)] := hl
  unfold m_falls at hs
  refine lv_aload_n hx hb dX6_falls_0 rfl (lv_at hl 0 rfl) ?_
  refine lv_aload_n hx hb dX6_falls_1 rfl (lv_at hl 0 rfl) ?_
  refine m_geti (v := .int (S.1 3)) X hK hM 3 q1479 rfl rfl rfl dX6_falls_2 ?_
  refine m_puti X hK hM 45 q1521 rfl rfl rfl rfl rfl rfl dX6_falls_5 (fun H locs hM => ?_)
  refine lv_aload_n hx hb dX6_falls_8 rfl (lv_at hl 0 rfl) ?_
  refine lv_dup hx hb dX6_falls_9 rfl ?_
  refine m_geti (v := .int (S.1 46)) X hK hM 46 q1522 rfl rfl rfl dX6_falls_10 ?_
  refine lv_iconst (v := 1) hx hb dX6_falls_13 (by decide) ?_
  refine lv_iadd hx hb dX6_falls_14 ?_
  refine m_puti X hK hM 46 q1522 rfl rfl rfl rfl rfl rfl dX6_falls_15 (fun H locs hM => ?_)
  exact m_retv X hK hM hs dX6_falls_18
def m_puffs (S : MS) (K : MS → Prop) : Prop := m_puff  S (fun r2 S1 => jn (fun (v3 : Int32) (S4 : MS) => (if (v3 + 1) ≤ 60 then K (mset (mset S4 43 (v3 + 1)) 43 (v3 + 1)) else K (mset (mset S4 43 (v3 + 1)) 43 60))) (fun k25_4 => (if (S.1 43) ≤ r2 then k25_4 0 S1 else m_puff  S1 (fun r7 S6 => k25_4 ((S1.1 43) - r7) S6))))
theorem iX6_puffs : mInf yX6_puffs cX6_puffs 1 none 0 := ⟨q1848, qs69, q1849, by decide +kernel⟩
set_option maxHeartbeats 4000000 in
theorem met_puffs (l : Launch)  (S : MS) (K : MS → Prop) (hs : m_puffs  S K) : mMetv l yX6_puffs cX6_puffs 1 1 20 S (fun ad => []) K := by
  intro D dT h ad sz
  refine mEnter (Qc := mQv D dT h ad K) (by decide) rfl (by rfl) ?_
  intro p e s m args below meth c A ls X hK hA hM hl
  have hx := X.1
  have hb := X.2.1
  have hts := X.2.2.2.2.1
  have hown := X.2.2.2.2.2.1
  have hl : lv_has ls 1 [(0, .ref h)] := hl
  unfold m_puffs at hs
  refine lv_aload_n hx hb dX6_puffs_0 rfl (lv_at hl 0 rfl) ?_
  refine lv_aload_n hx hb dX6_puffs_1 rfl (lv_at hl 0 rfl) ?_
  refine m_geti (v := .int (S.1 43)) X hK hM 43 q1519 rfl rfl rfl dX6_puffs_2 ?_
  refine lv_aload_n hx hb dX6_puffs_5 rfl (lv_at hl 0 rfl) ?_
  refine m_calli (rest := [.int (S.1 43), .ref h]) (av := fun ad => []) X hK hA hM (met_puff l  _ _ hs) iX6_puff q1706 ⟨Nat.le_of_ble_eq_true rfl, Nat.le_of_ble_eq_true rfl⟩ rfl hl.1 rfl (Nat.le_of_ble_eq_true rfl) dX6_puffs_6 (fun r2 S1 H locs hs hM => ?_)
  obtain ⟨k25_4, hk25_4, hs⟩ := jn_ex hs
  have Ek25_4 : ∀ (v3 : Int32) (S4 : MS) (H : Heap) (locs : List Loc) (ls : Array Slot), k25_4 v3 S4 → mI D dT A s.heap h ad S4 H locs → lv_has ls 1 [(0, .ref h)] → W p l e (mRm 1 20) s m args below meth c H locs 0 0 (MQ below (mQv D dT h ad K A) args s 0 0 A) (F0 m 25 ls [.int v3, .ref h]) := by
    intro v3 S4 H locs ls hs hM hl
    rw [hk25_4] at hs
    refine lv_iconst (v := 1) hx hb dX6_puffs_25 (by decide) ?_
    refine lv_iadd hx hb dX6_puffs_26 ?_
    refine m_puti X hK hM 43 q1519 rfl rfl rfl rfl rfl rfl dX6_puffs_27 (fun H locs hM => ?_)
    refine lv_aload_n hx hb dX6_puffs_30 rfl (lv_at hl 0 rfl) ?_
    refine lv_aload_n hx hb dX6_puffs_31 rfl (lv_at hl 0 rfl) ?_
    refine m_geti (v := .int (v3 + 1)) X hK hM 43 q1519 rfl rfl rfl dX6_puffs_32 ?_
    refine lv_bipush (v := 60) hx hb dX6_puffs_35 (by decide) ?_
    refine lv_icmp_le (tgt := 45) hx hb dX6_puffs_37 (by decide) (fun c4 => ?_) (fun c4 => ?_)
    · replace hs := ifp c4 hs
      refine lv_aload_n hx hb dX6_puffs_45 rfl (lv_at hl 0 rfl) ?_
      refine m_geti (v := .int (v3 + 1)) X hK hM 43 q1519 rfl rfl rfl dX6_puffs_46 ?_
      refine m_puti X hK hM 43 q1519 rfl rfl rfl rfl rfl rfl dX6_puffs_49 (fun H locs hM => ?_)
      exact m_retv X hK hM hs dX6_puffs_52
    · replace hs := ifn c4 hs
      refine lv_bipush (v := 60) hx hb dX6_puffs_40 (by decide) ?_
      refine lv_goto (tgt := 49) hx hb dX6_puffs_42 (by decide) ?_
      refine m_puti X hK hM 43 q1519 rfl rfl rfl rfl rfl rfl dX6_puffs_49 (fun H locs hM => ?_)
      exact m_retv X hK hM hs dX6_puffs_52
  refine lv_icmp_le (tgt := 24) hx hb dX6_puffs_9 (by decide) (fun c7 => ?_) (fun c7 => ?_)
  · replace hs := ifp c7 hs
    refine lv_iconst (v := 0) hx hb dX6_puffs_24 (by decide) ?_
    exact Ek25_4 _ _ _ _ _ hs hM hl
  · replace hs := ifn c7 hs
    refine lv_aload_n hx hb dX6_puffs_12 rfl (lv_at hl 0 rfl) ?_
    refine m_geti (v := .int (S1.1 43)) X hK hM 43 q1519 rfl rfl rfl dX6_puffs_13 ?_
    refine lv_aload_n hx hb dX6_puffs_16 rfl (lv_at hl 0 rfl) ?_
    refine m_calli (rest := [.int (S1.1 43), .ref h]) (av := fun ad => []) X hK hA hM (met_puff l  _ _ hs) iX6_puff q1706 ⟨Nat.le_of_ble_eq_true rfl, Nat.le_of_ble_eq_true rfl⟩ rfl hl.1 rfl (Nat.le_of_ble_eq_true rfl) dX6_puffs_17 (fun r7 S6 H locs hs hM => ?_)
    refine lv_isub hx hb dX6_puffs_20 ?_
    refine lv_goto (tgt := 25) hx hb dX6_puffs_21 (by decide) ?_
    exact Ek25_4 _ _ _ _ _ hs hM hl
def m_rests (S : MS) (K : MS → Prop) : Prop := jn (fun (v1 : Int32) => (if (S.1 41) = 1 then K (mset (mset (mset S 45 ((S.1 45) - 1)) 43 v1) 42 ((S.1 42) + 1)) else K (mset (mset S 45 ((S.1 45) - 1)) 43 v1))) (fun k33_1 => (if ((S.1 43) + 2) ≤ 60 then k33_1 ((S.1 43) + 2) else k33_1 60))
theorem iX6_rests : mInf yX6_rests cX6_rests 1 none 0 := ⟨q1840, qs67, q1841, by decide +kernel⟩
set_option maxHeartbeats 4000000 in
theorem met_rests (l : Launch)  (S : MS) (K : MS → Prop) (hs : m_rests  S K) : mMetv l yX6_rests cX6_rests 1 0 0 S (fun ad => []) K := by
  intro D dT h ad sz
  refine mEnter (Qc := mQv D dT h ad K) (by decide) rfl (by rfl) ?_
  intro p e s m args below meth c A ls X hK hA hM hl
  have hx := X.1
  have hb := X.2.1
  have hts := X.2.2.2.2.1
  have hown := X.2.2.2.2.2.1
  have hl : lv_has ls 1 [(0, .ref h)] := hl
  unfold m_rests at hs
  refine lv_aload_n hx hb dX6_rests_0 rfl (lv_at hl 0 rfl) ?_
  refine lv_dup hx hb dX6_rests_1 rfl ?_
  refine m_geti (v := .int (S.1 45)) X hK hM 45 q1521 rfl rfl rfl dX6_rests_2 ?_
  refine lv_iconst (v := 1) hx hb dX6_rests_5 (by decide) ?_
  refine lv_isub hx hb dX6_rests_6 ?_
  refine m_puti X hK hM 45 q1521 rfl rfl rfl rfl rfl rfl dX6_rests_7 (fun H locs hM => ?_)
  refine lv_aload_n hx hb dX6_rests_10 rfl (lv_at hl 0 rfl) ?_
  refine lv_aload_n hx hb dX6_rests_11 rfl (lv_at hl 0 rfl) ?_
  refine m_geti (v := .int (S.1 43)) X hK hM 43 q1519 rfl rfl rfl dX6_rests_12 ?_
  refine lv_iconst (v := 2) hx hb dX6_rests_15 (by decide) ?_
  refine lv_iadd hx hb dX6_rests_16 ?_
  refine lv_bipush (v := 60) hx hb dX6_rests_17 (by decide) ?_
  obtain ⟨k33_1, hk33_1, hs⟩ := jn_ex hs
  have Ek33_1 : ∀ (v1 : Int32) (H : Heap) (locs : List Loc) (ls : Array Slot), k33_1 v1 → mI D dT A s.heap h ad (mset S 45 ((S.1 45) - 1)) H locs → lv_has ls 1 [(0, .ref h)] → W p l e (mRm 0 0) s m args below meth c H locs 0 0 (MQ below (mQv D dT h ad K A) args s 0 0 A) (F0 m 33 ls [.int v1, .ref h]) := by
    intro v1 H locs ls hs hM hl
    rw [hk33_1] at hs
    refine m_puti X hK hM 43 q1519 rfl rfl rfl rfl rfl rfl dX6_rests_33 (fun H locs hM => ?_)
    refine lv_aload_n hx hb dX6_rests_36 rfl (lv_at hl 0 rfl) ?_
    refine m_geti (v := .int (S.1 41)) X hK hM 41 q1517 rfl rfl rfl dX6_rests_37 ?_
    refine lv_iconst (v := 1) hx hb dX6_rests_40 (by decide) ?_
    refine lv_icmp_ne (tgt := 54) hx hb dX6_rests_41 (by decide) (fun c1 => ?_) (fun c1 => ?_)
    · replace hs := ifn c1 hs
      exact m_retv X hK hM hs dX6_rests_54
    · replace hs := ifp c1 hs
      refine lv_aload_n hx hb dX6_rests_44 rfl (lv_at hl 0 rfl) ?_
      refine lv_dup hx hb dX6_rests_45 rfl ?_
      refine m_geti (v := .int (S.1 42)) X hK hM 42 q1518 rfl rfl rfl dX6_rests_46 ?_
      refine lv_iconst (v := 1) hx hb dX6_rests_49 (by decide) ?_
      refine lv_iadd hx hb dX6_rests_50 ?_
      refine m_puti X hK hM 42 q1518 rfl rfl rfl rfl rfl rfl dX6_rests_51 (fun H locs hM => ?_)
      exact m_retv X hK hM hs dX6_rests_54
  refine lv_icmp_le (tgt := 27) hx hb dX6_rests_19 (by decide) (fun c2 => ?_) (fun c2 => ?_)
  · replace hs := ifp c2 hs
    refine lv_aload_n hx hb dX6_rests_27 rfl (lv_at hl 0 rfl) ?_
    refine m_geti (v := .int (S.1 43)) X hK hM 43 q1519 rfl rfl rfl dX6_rests_28 ?_
    refine lv_iconst (v := 2) hx hb dX6_rests_31 (by decide) ?_
    refine lv_iadd hx hb dX6_rests_32 ?_
    exact Ek33_1 _ _ _ _ hs hM hl
  · replace hs := ifn c2 hs
    refine lv_bipush (v := 60) hx hb dX6_rests_22 (by decide) ?_
    refine lv_goto (tgt := 33) hx hb dX6_rests_24 (by decide) ?_
    exact Ek33_1 _ _ _ _ hs hM hl
def m_riskNow (S : MS) (K : Int32 → MS → Prop) : Prop := m_risk  S (fun r2 S1 => m_puff  S1 (fun r4 S3 => (if r4 ≤ (S1.1 43) then K (r2 + 0) S3 else K (r2 + 20) S3)))
theorem iX6_riskNow : mInf yX6_riskNow cX6_riskNow 1 (some .int) 0 := ⟨q1844, qs68, q1845, by decide +kernel⟩
set_option maxHeartbeats 4000000 in
theorem met_riskNow (l : Launch)  (S : MS) (K : Int32 → MS → Prop) (hs : m_riskNow  S K) : mMeti l yX6_riskNow cX6_riskNow 1 3 62 S (fun ad => []) K := by
  intro D dT h ad sz
  refine mEnter (Qc := mQi D dT h ad K) (by decide) rfl (by rfl) ?_
  intro p e s m args below meth c A ls X hK hA hM hl
  have hx := X.1
  have hb := X.2.1
  have hts := X.2.2.2.2.1
  have hown := X.2.2.2.2.2.1
  have hl : lv_has ls 1 [(0, .ref h)] := hl
  unfold m_riskNow at hs
  refine lv_aload_n hx hb dX6_riskNow_0 rfl (lv_at hl 0 rfl) ?_
  refine m_calli (rest := []) (av := fun ad => []) X hK hA hM (met_risk l  _ _ hs) iX6_risk q1718 ⟨Nat.le_of_ble_eq_true rfl, Nat.le_of_ble_eq_true rfl⟩ rfl hl.1 rfl (Nat.le_of_ble_eq_true rfl) dX6_riskNow_1 (fun r2 S1 H locs hs hM => ?_)
  refine lv_aload_n hx hb dX6_riskNow_4 rfl (lv_at hl 0 rfl) ?_
  refine m_geti (v := .int (S1.1 43)) X hK hM 43 q1519 rfl rfl rfl dX6_riskNow_5 ?_
  refine lv_aload_n hx hb dX6_riskNow_8 rfl (lv_at hl 0 rfl) ?_
  refine m_calli (rest := [.int (S1.1 43), .int r2]) (av := fun ad => []) X hK hA hM (met_puff l  _ _ hs) iX6_puff q1706 ⟨Nat.le_of_ble_eq_true rfl, Nat.le_of_ble_eq_true rfl⟩ rfl hl.1 rfl (Nat.le_of_ble_eq_true rfl) dX6_riskNow_9 (fun r4 S3 H locs hs hM => ?_)
  refine lv_icmp_ge (tgt := 20) hx hb dX6_riskNow_12 (by decide) (fun c4 => ?_) (fun c4 => ?_)
  · replace hs := ifp c4 hs
    refine lv_iconst (v := 0) hx hb dX6_riskNow_20 (by decide) ?_
    refine lv_iadd hx hb dX6_riskNow_21 ?_
    exact m_reti X hK hM hs dX6_riskNow_22
  · replace hs := ifn c4 hs
    refine lv_bipush (v := 20) hx hb dX6_riskNow_15 (by decide) ?_
    refine lv_goto (tgt := 21) hx hb dX6_riskNow_17 (by decide) ?_
    refine lv_iadd hx hb dX6_riskNow_21 ?_
    exact m_reti X hK hM hs dX6_riskNow_22
def m_second (S : MS) (K : MS → Prop) : Prop := (if (S.1 45) ≤ 0 then m_riskNow  S (fun r2 S1 => m_puffs  (mset S1 44 ((S.1 44) + r2)) (fun S3 => (if (S3.1 44) < 100 then m_stride  S3 (fun r5 S4 => K (mset S4 42 ((S3.1 42) + r5))) else m_falls  (mset S3 44 ((S3.1 44) - 100)) (fun S6 => K S6)))) else m_rests  S (fun S8 => K S8))
theorem iX6_second : mInf yX6_second cX6_second 1 none 0 := ⟨q1836, qs66, q1837, by decide +kernel⟩
set_option maxHeartbeats 4000000 in
theorem met_second (l : Launch)  (S : MS) (K : MS → Prop) (hs : m_second  S K) : mMetv l yX6_second cX6_second 1 4 82 S (fun ad => []) K := by
  intro D dT h ad sz
  refine mEnter (Qc := mQv D dT h ad K) (by decide) rfl (by rfl) ?_
  intro p e s m args below meth c A ls X hK hA hM hl
  have hx := X.1
  have hb := X.2.1
  have hts := X.2.2.2.2.1
  have hown := X.2.2.2.2.2.1
  have hl : lv_has ls 1 [(0, .ref h)] := hl
  unfold m_second at hs
  refine lv_aload_n hx hb dX6_second_0 rfl (lv_at hl 0 rfl) ?_
  refine m_geti (v := .int (S.1 45)) X hK hM 45 q1521 rfl rfl rfl dX6_second_1 ?_
  refine lv_if_le (tgt := 12) hx hb dX6_second_4 (by decide) (fun c8 => ?_) (fun c8 => ?_)
  · replace hs := ifp c8 hs
    refine lv_aload_n hx hb dX6_second_12 rfl (lv_at hl 0 rfl) ?_
    refine lv_dup hx hb dX6_second_13 rfl ?_
    refine m_geti (v := .int (S.1 44)) X hK hM 44 q1520 rfl rfl rfl dX6_second_14 ?_
    refine lv_aload_n hx hb dX6_second_17 rfl (lv_at hl 0 rfl) ?_
    refine m_calli (rest := [.int (S.1 44), .ref h]) (av := fun ad => []) X hK hA hM (met_riskNow l  _ _ hs) iX6_riskNow q1842 ⟨Nat.le_of_ble_eq_true rfl, Nat.le_of_ble_eq_true rfl⟩ rfl hl.1 rfl (Nat.le_of_ble_eq_true rfl) dX6_second_18 (fun r2 S1 H locs hs hM => ?_)
    refine lv_iadd hx hb dX6_second_21 ?_
    refine m_puti X hK hM 44 q1520 rfl rfl rfl rfl rfl rfl dX6_second_22 (fun H locs hM => ?_)
    refine lv_aload_n hx hb dX6_second_25 rfl (lv_at hl 0 rfl) ?_
    refine m_callv (rest := []) (av := fun ad => []) X hK hA hM (met_puffs l  _ _ hs) iX6_puffs q1846 ⟨Nat.le_of_ble_eq_true rfl, Nat.le_of_ble_eq_true rfl⟩ rfl hl.1 rfl (Nat.le_of_ble_eq_true rfl) dX6_second_26 (fun S3 H locs hs hM => ?_)
    refine lv_aload_n hx hb dX6_second_29 rfl (lv_at hl 0 rfl) ?_
    refine m_geti (v := .int (S3.1 44)) X hK hM 44 q1520 rfl rfl rfl dX6_second_30 ?_
    refine lv_bipush (v := 100) hx hb dX6_second_33 (by decide) ?_
    refine lv_icmp_lt (tgt := 56) hx hb dX6_second_35 (by decide) (fun c6 => ?_) (fun c6 => ?_)
    · replace hs := ifp c6 hs
      refine lv_aload_n hx hb dX6_second_56 rfl (lv_at hl 0 rfl) ?_
      refine lv_dup hx hb dX6_second_57 rfl ?_
      refine m_geti (v := .int (S3.1 42)) X hK hM 42 q1518 rfl rfl rfl dX6_second_58 ?_
      refine lv_aload_n hx hb dX6_second_61 rfl (lv_at hl 0 rfl) ?_
      refine m_calli (rest := [.int (S3.1 42), .ref h]) (av := fun ad => []) X hK hA hM (met_stride l  _ _ hs) iX6_stride q1710 ⟨Nat.le_of_ble_eq_true rfl, Nat.le_of_ble_eq_true rfl⟩ rfl hl.1 rfl (Nat.le_of_ble_eq_true rfl) dX6_second_62 (fun r5 S4 H locs hs hM => ?_)
      refine lv_iadd hx hb dX6_second_65 ?_
      refine m_puti X hK hM 42 q1518 rfl rfl rfl rfl rfl rfl dX6_second_66 (fun H locs hM => ?_)
      exact m_retv X hK hM hs dX6_second_69
    · replace hs := ifn c6 hs
      refine lv_aload_n hx hb dX6_second_38 rfl (lv_at hl 0 rfl) ?_
      refine lv_dup hx hb dX6_second_39 rfl ?_
      refine m_geti (v := .int (S3.1 44)) X hK hM 44 q1520 rfl rfl rfl dX6_second_40 ?_
      refine lv_bipush (v := 100) hx hb dX6_second_43 (by decide) ?_
      refine lv_isub hx hb dX6_second_45 ?_
      refine m_puti X hK hM 44 q1520 rfl rfl rfl rfl rfl rfl dX6_second_46 (fun H locs hM => ?_)
      refine lv_aload_n hx hb dX6_second_49 rfl (lv_at hl 0 rfl) ?_
      refine m_callv (rest := []) (av := fun ad => []) X hK hA hM (met_falls l  _ _ hs) iX6_falls q1850 ⟨Nat.le_of_ble_eq_true rfl, Nat.le_of_ble_eq_true rfl⟩ rfl hl.1 rfl (Nat.le_of_ble_eq_true rfl) dX6_second_50 (fun S6 H locs hs hM => ?_)
      refine lv_goto (tgt := 69) hx hb dX6_second_53 (by decide) ?_
      exact m_retv X hK hM hs dX6_second_69
  · replace hs := ifn c8 hs
    refine lv_aload_n hx hb dX6_second_7 rfl (lv_at hl 0 rfl) ?_
    refine m_callv (rest := []) (av := fun ad => []) X hK hA hM (met_rests l  _ _ hs) iX6_rests q1838 ⟨Nat.le_of_ble_eq_true rfl, Nat.le_of_ble_eq_true rfl⟩ rfl hl.1 rfl (Nat.le_of_ble_eq_true rfl) dX6_second_8 (fun S8 H locs hs hM => ?_)
    exact m_retv X hK hM hs dX6_second_11
def m_starts (S : MS) (K : MS → Prop) : Prop := K (mset (mset (mset (mset (mset S 42 (S.1 40)) 43 (S.1 5)) 44 0) 45 0) 46 0)
theorem iX6_starts : mInf yX6_starts cX6_starts 1 none 0 := ⟨q1832, qs65, q1833, by decide +kernel⟩
set_option maxHeartbeats 4000000 in
theorem met_starts (l : Launch)  (S : MS) (K : MS → Prop) (hs : m_starts  S K) : mMetv l yX6_starts cX6_starts 1 0 0 S (fun ad => []) K := by
  intro D dT h ad sz
  refine mEnter (Qc := mQv D dT h ad K) (by decide) rfl (by rfl) ?_
  intro p e s m args below meth c A ls X hK hA hM hl
  have hx := X.1
  have hb := X.2.1
  have hts := X.2.2.2.2.1
  have hown := X.2.2.2.2.2.1
  have hl : lv_has ls 1 [(0, .ref h)] := hl
  unfold m_starts at hs
  refine lv_aload_n hx hb dX6_starts_0 rfl (lv_at hl 0 rfl) ?_
  refine lv_aload_n hx hb dX6_starts_1 rfl (lv_at hl 0 rfl) ?_
  refine m_geti (v := .int (S.1 40)) X hK hM 40 q1516 rfl rfl rfl dX6_starts_2 ?_
  refine m_puti X hK hM 42 q1518 rfl rfl rfl rfl rfl rfl dX6_starts_5 (fun H locs hM => ?_)
  refine lv_aload_n hx hb dX6_starts_8 rfl (lv_at hl 0 rfl) ?_
  refine lv_aload_n hx hb dX6_starts_9 rfl (lv_at hl 0 rfl) ?_
  refine m_geti (v := .int (S.1 5)) X hK hM 5 q1481 rfl rfl rfl dX6_starts_10 ?_
  refine m_puti X hK hM 43 q1519 rfl rfl rfl rfl rfl rfl dX6_starts_13 (fun H locs hM => ?_)
  refine lv_aload_n hx hb dX6_starts_16 rfl (lv_at hl 0 rfl) ?_
  refine lv_iconst (v := 0) hx hb dX6_starts_17 (by decide) ?_
  refine m_puti X hK hM 44 q1520 rfl rfl rfl rfl rfl rfl dX6_starts_18 (fun H locs hM => ?_)
  refine lv_aload_n hx hb dX6_starts_21 rfl (lv_at hl 0 rfl) ?_
  refine lv_iconst (v := 0) hx hb dX6_starts_22 (by decide) ?_
  refine m_puti X hK hM 45 q1521 rfl rfl rfl rfl rfl rfl dX6_starts_23 (fun H locs hM => ?_)
  refine lv_aload_n hx hb dX6_starts_26 rfl (lv_at hl 0 rfl) ?_
  refine lv_iconst (v := 0) hx hb dX6_starts_27 (by decide) ?_
  refine m_puti X hK hM 46 q1522 rfl rfl rfl rfl rfl rfl dX6_starts_28 (fun H locs hM => ?_)
  exact m_retv X hK hM hs dX6_starts_31
def m_behind_l60 (a2 : Int32) (k87_9 : MS → Prop) : Nat → Int32 → MS → Prop
  | 0, _, _ => False
  | n60_16 + 1, x15, S16 => (if a2 ≤ x15 then k87_9 S16 else (if (S16.1 2) ≤ (S16.1 42) then k87_9 S16 else m_second  S16 (fun S18 => m_behind_l60 a2 k87_9 n60_16 (x15 + 1) S18)))
theorem m_behind_l60_s (a2 : Int32) (k87_9 : MS → Prop) (n60_16 : Nat) (x15 : Int32) (S16 : MS) : m_behind_l60 a2 k87_9 (n60_16 + 1) x15 S16 = ((if a2 ≤ x15 then k87_9 S16 else (if (S16.1 2) ≤ (S16.1 42) then k87_9 S16 else m_second  S16 (fun S18 => m_behind_l60 a2 k87_9 n60_16 (x15 + 1) S18)))) := rfl
def m_behind (a1 : Int32) (a2 : Int32) (a3 : Int32) (S : MS) (K : Int32 → MS → Prop) : Prop := m_isChild a1 S (fun r2 S1 => (if r2 = 0 then m_no (-1) S1 (fun r26 S25 => K r26 S25) else jn (m_no (-5) S1 (fun r4 S3 => K r4 S3)) (fun k23_2 => (if a3 < 0 then k23_2 else (if a3 ≤ 4 then jn (m_no (-6) S1 (fun r6 S5 => K r6 S5)) (fun k41_4 => (if a2 < 0 then k41_4 else (if a2 ≤ 999 then m_puts a1 S1 (fun S7 => m_starts  S7 (fun S8 => jn (fun (S9 : MS) => (if a3 = 0 then K (S9.1 42) S9 else (if a3 = 1 then K (S9.1 43) S9 else (if a3 = 2 then K (S9.1 44) S9 else (if a3 = 3 then K (S9.1 45) S9 else K (S9.1 46) S9))))) (fun k87_9 => m_behind_l60 a2 k87_9 NF 0 S8))) else k41_4))) else k23_2)))))
theorem iX6_behind : mInf yX6_behind cX6_behind 5 (some .int) 3 := ⟨q1827, q1828, q1829, by decide +kernel⟩
set_option maxHeartbeats 4000000 in
theorem met_behind (l : Launch) (a1 : Int32) (a2 : Int32) (a3 : Int32) (S : MS) (K : Int32 → MS → Prop) (hs : m_behind a1 a2 a3 S K) : mMeti l yX6_behind cX6_behind 5 5 102 S (fun ad => [.int a1, .int a2, .int a3]) K := by
  intro D dT h ad sz
  refine mEnter (Qc := mQi D dT h ad K) (by decide) rfl (by rfl) ?_
  intro p e s m args below meth c A ls X hK hA hM hl
  have hx := X.1
  have hb := X.2.1
  have hts := X.2.2.2.2.1
  have hown := X.2.2.2.2.2.1
  have hl : lv_has ls 5 [(0, .ref h), (1, .int a1), (2, .int a2), (3, .int a3)] := hl
  unfold m_behind at hs
  refine lv_aload_n hx hb dX6_behind_0 rfl (lv_at hl 0 rfl) ?_
  refine lv_iload_n hx hb dX6_behind_1 rfl (lv_at hl 1 rfl) ?_
  refine m_callz (rest := []) (av := fun ad => [.int a1]) X hK hA hM (met_isChild l a1 _ _ hs) iX6_isChild q1682 ⟨Nat.le_of_ble_eq_true rfl, Nat.le_of_ble_eq_true rfl⟩ rfl hl.1 rfl (Nat.le_of_ble_eq_true rfl) dX6_behind_2 (fun r2 S1 H locs br2 hs hM => ?_)
  refine lv_if_ne (tgt := 14) hx hb dX6_behind_5 (by decide) (fun c26 => ?_) (fun c26 => ?_)
  · replace hs := ifn c26 hs
    refine lv_iload_n hx hb dX6_behind_14 rfl (lv_at hl 3 rfl) ?_
    obtain ⟨k23_2, hk23_2, hs⟩ := jn_ex hs
    have Ek23_2 : ∀ (H : Heap) (locs : List Loc) (ls : Array Slot), k23_2 → mI D dT A s.heap h ad S1 H locs → lv_has ls 5 [(0, .ref h)] → W p l e (mRm 5 102) s m args below meth c H locs 0 0 (MQ below (mQi D dT h ad K A) args s 0 0 A) (F0 m 23 ls []) := by
      intro H locs ls hs hM hl
      rw [hk23_2] at hs
      refine lv_aload_n hx hb dX6_behind_23 rfl (lv_at hl 0 rfl) ?_
      refine lv_bipush (v := (-5)) hx hb dX6_behind_24 (by decide) ?_
      refine m_calli (rest := []) (av := fun ad => [.int (-5)]) X hK hA hM (met_no l (-5) _ _ hs) iX6_no q1662 ⟨Nat.le_of_ble_eq_true rfl, Nat.le_of_ble_eq_true rfl⟩ rfl hl.1 rfl (Nat.le_of_ble_eq_true rfl) dX6_behind_26 (fun r4 S3 H locs hs hM => ?_)
      exact m_reti X hK hM hs dX6_behind_29
    refine lv_if_lt (tgt := 23) hx hb dX6_behind_15 (by decide) (fun c23 => ?_) (fun c23 => ?_)
    · replace hs := ifp c23 hs
      exact Ek23_2 _ _ _ hs hM (lv_sub hl [0] rfl)
    · replace hs := ifn c23 hs
      refine lv_iload_n hx hb dX6_behind_18 rfl (lv_at hl 3 rfl) ?_
      refine lv_iconst (v := 4) hx hb dX6_behind_19 (by decide) ?_
      refine lv_icmp_le (tgt := 30) hx hb dX6_behind_20 (by decide) (fun c22 => ?_) (fun c22 => ?_)
      · replace hs := ifp c22 hs
        refine lv_iload_n hx hb dX6_behind_30 rfl (lv_at hl 2 rfl) ?_
        obtain ⟨k41_4, hk41_4, hs⟩ := jn_ex hs
        have Ek41_4 : ∀ (H : Heap) (locs : List Loc) (ls : Array Slot), k41_4 → mI D dT A s.heap h ad S1 H locs → lv_has ls 5 [(0, .ref h)] → W p l e (mRm 5 102) s m args below meth c H locs 0 0 (MQ below (mQi D dT h ad K A) args s 0 0 A) (F0 m 41 ls []) := by
          intro H locs ls hs hM hl
          rw [hk41_4] at hs
          refine lv_aload_n hx hb dX6_behind_41 rfl (lv_at hl 0 rfl) ?_
          refine lv_bipush (v := (-6)) hx hb dX6_behind_42 (by decide) ?_
          refine m_calli (rest := []) (av := fun ad => [.int (-6)]) X hK hA hM (met_no l (-6) _ _ hs) iX6_no q1662 ⟨Nat.le_of_ble_eq_true rfl, Nat.le_of_ble_eq_true rfl⟩ rfl hl.1 rfl (Nat.le_of_ble_eq_true rfl) dX6_behind_44 (fun r6 S5 H locs hs hM => ?_)
          exact m_reti X hK hM hs dX6_behind_47
        refine lv_if_lt (tgt := 41) hx hb dX6_behind_31 (by decide) (fun c21 => ?_) (fun c21 => ?_)
        · replace hs := ifp c21 hs
          exact Ek41_4 _ _ _ hs hM (lv_sub hl [0] rfl)
        · replace hs := ifn c21 hs
          refine lv_iload_n hx hb dX6_behind_34 rfl (lv_at hl 2 rfl) ?_
          refine lv_sipush (v := 999) hx hb dX6_behind_35 (by decide) ?_
          refine lv_icmp_le (tgt := 48) hx hb dX6_behind_38 (by decide) (fun c20 => ?_) (fun c20 => ?_)
          · replace hs := ifp c20 hs
            refine lv_aload_n hx hb dX6_behind_48 rfl (lv_at hl 0 rfl) ?_
            refine lv_iload_n hx hb dX6_behind_49 rfl (lv_at hl 1 rfl) ?_
            refine m_callv (rest := []) (av := fun ad => [.int a1]) X hK hA hM (met_puts l a1 _ _ hs) iX6_puts q1694 ⟨Nat.le_of_ble_eq_true rfl, Nat.le_of_ble_eq_true rfl⟩ rfl hl.1 rfl (Nat.le_of_ble_eq_true rfl) dX6_behind_50 (fun S7 H locs hs hM => ?_)
            refine lv_aload_n hx hb dX6_behind_53 rfl (lv_at hl 0 rfl) ?_
            refine m_callv (rest := []) (av := fun ad => []) X hK hA hM (met_starts l  _ _ hs) iX6_starts q1830 ⟨Nat.le_of_ble_eq_true rfl, Nat.le_of_ble_eq_true rfl⟩ rfl hl.1 rfl (Nat.le_of_ble_eq_true rfl) dX6_behind_54 (fun S8 H locs hs hM => ?_)
            refine lv_iconst (v := 0) hx hb dX6_behind_57 (by decide) ?_
            refine lv_istore (lv' := [(4, .int 0), (0, .ref h), (1, .int a1), (2, .int a2), (3, .int a3)]) hx hb dX6_behind_58 hl (by decide) rfl (fun ls hl => ?_)
            obtain ⟨k87_9, hk87_9, hs⟩ := jn_ex hs
            have Ek87_9 : ∀ (S9 : MS) (H : Heap) (locs : List Loc) (ls : Array Slot), k87_9 S9 → mI D dT A s.heap h ad S9 H locs → lv_has ls 5 [(0, .ref h), (3, .int a3)] → W p l e (mRm 5 102) s m args below meth c H locs 0 0 (MQ below (mQi D dT h ad K A) args s 0 0 A) (F0 m 87 ls []) := by
              intro S9 H locs ls hs hM hl
              rw [hk87_9] at hs
              refine lv_iload_n hx hb dX6_behind_87 rfl (lv_at hl 1 rfl) ?_
              refine lv_if_ne (tgt := 98) hx hb dX6_behind_88 (by decide) (fun c13 => ?_) (fun c13 => ?_)
              · replace hs := ifn c13 hs
                refine lv_iload_n hx hb dX6_behind_98 rfl (lv_at hl 1 rfl) ?_
                refine lv_iconst (v := 1) hx hb dX6_behind_99 (by decide) ?_
                refine lv_icmp_ne (tgt := 110) hx hb dX6_behind_100 (by decide) (fun c12 => ?_) (fun c12 => ?_)
                · replace hs := ifn c12 hs
                  refine lv_iload_n hx hb dX6_behind_110 rfl (lv_at hl 1 rfl) ?_
                  refine lv_iconst (v := 2) hx hb dX6_behind_111 (by decide) ?_
                  refine lv_icmp_ne (tgt := 122) hx hb dX6_behind_112 (by decide) (fun c11 => ?_) (fun c11 => ?_)
                  · replace hs := ifn c11 hs
                    refine lv_iload_n hx hb dX6_behind_122 rfl (lv_at hl 1 rfl) ?_
                    refine lv_iconst (v := 3) hx hb dX6_behind_123 (by decide) ?_
                    refine lv_icmp_ne (tgt := 134) hx hb dX6_behind_124 (by decide) (fun c10 => ?_) (fun c10 => ?_)
                    · replace hs := ifn c10 hs
                      refine lv_aload_n hx hb dX6_behind_134 rfl (lv_at hl 0 rfl) ?_
                      refine m_geti (v := .int (S9.1 46)) X hK hM 46 q1522 rfl rfl rfl dX6_behind_135 ?_
                      exact m_reti X hK hM hs dX6_behind_138
                    · replace hs := ifp c10 hs
                      refine lv_aload_n hx hb dX6_behind_127 rfl (lv_at hl 0 rfl) ?_
                      refine m_geti (v := .int (S9.1 45)) X hK hM 45 q1521 rfl rfl rfl dX6_behind_128 ?_
                      refine lv_goto (tgt := 138) hx hb dX6_behind_131 (by decide) ?_
                      exact m_reti X hK hM hs dX6_behind_138
                  · replace hs := ifp c11 hs
                    refine lv_aload_n hx hb dX6_behind_115 rfl (lv_at hl 0 rfl) ?_
                    refine m_geti (v := .int (S9.1 44)) X hK hM 44 q1520 rfl rfl rfl dX6_behind_116 ?_
                    refine lv_goto (tgt := 138) hx hb dX6_behind_119 (by decide) ?_
                    exact m_reti X hK hM hs dX6_behind_138
                · replace hs := ifp c12 hs
                  refine lv_aload_n hx hb dX6_behind_103 rfl (lv_at hl 0 rfl) ?_
                  refine m_geti (v := .int (S9.1 43)) X hK hM 43 q1519 rfl rfl rfl dX6_behind_104 ?_
                  refine lv_goto (tgt := 138) hx hb dX6_behind_107 (by decide) ?_
                  exact m_reti X hK hM hs dX6_behind_138
              · replace hs := ifp c13 hs
                refine lv_aload_n hx hb dX6_behind_91 rfl (lv_at hl 0 rfl) ?_
                refine m_geti (v := .int (S9.1 42)) X hK hM 42 q1518 rfl rfl rfl dX6_behind_92 ?_
                refine lv_goto (tgt := 138) hx hb dX6_behind_95 (by decide) ?_
                exact m_reti X hK hM hs dX6_behind_138
            have Lm_behind_l60 : ∀ (n60_16 : Nat) (x15 : Int32) (S16 : MS) (H : Heap) (locs : List Loc) (ls : Array Slot), m_behind_l60 a2 k87_9 n60_16 x15 S16 → mI D dT A s.heap h ad S16 H locs → lv_has ls 5 [(0, .ref h), (2, .int a2), (3, .int a3), (4, .int x15)] → W p l e (mRm 5 102) s m args below meth c H locs 0 0 (MQ below (mQi D dT h ad K A) args s 0 0 A) (F0 m 60 ls []) := by
              intro n60_16
              induction n60_16 with
              | zero =>
                intro x15 S16 H locs ls hs
                exact False.elim hs
              | succ n60_16 ihm_behind_l60 =>
                intro x15 S16 H locs ls hs hM hl
                rw [m_behind_l60_s] at hs
                refine lv_iload hx hb dX6_behind_60 (lv_at hl 3 rfl) ?_
                refine lv_iload_n hx hb dX6_behind_62 rfl (lv_at hl 1 rfl) ?_
                refine lv_icmp_ge (tgt := 87) hx hb dX6_behind_63 (by decide) (fun c19 => ?_) (fun c19 => ?_)
                · replace hs := ifp c19 hs
                  exact Ek87_9 _ _ _ _ hs hM (lv_sub hl [0, 2] rfl)
                · replace hs := ifn c19 hs
                  refine lv_aload_n hx hb dX6_behind_66 rfl (lv_at hl 0 rfl) ?_
                  refine m_geti (v := .int (S16.1 42)) X hK hM 42 q1518 rfl rfl rfl dX6_behind_67 ?_
                  refine lv_aload_n hx hb dX6_behind_70 rfl (lv_at hl 0 rfl) ?_
                  refine m_geti (v := .int (S16.1 2)) X hK hM 2 q1478 rfl rfl rfl dX6_behind_71 ?_
                  refine lv_icmp_ge (tgt := 87) hx hb dX6_behind_74 (by decide) (fun c18 => ?_) (fun c18 => ?_)
                  · replace hs := ifp c18 hs
                    exact Ek87_9 _ _ _ _ hs hM (lv_sub hl [0, 2] rfl)
                  · replace hs := ifn c18 hs
                    refine lv_aload_n hx hb dX6_behind_77 rfl (lv_at hl 0 rfl) ?_
                    refine m_callv (rest := []) (av := fun ad => []) X hK hA hM (met_second l  _ _ hs) iX6_second q1834 ⟨Nat.le_of_ble_eq_true rfl, Nat.le_of_ble_eq_true rfl⟩ rfl hl.1 rfl (Nat.le_of_ble_eq_true rfl) dX6_behind_78 (fun S18 H locs hs hM => ?_)
                    refine lv_iinc (v := (x15 + 1)) (lv' := [(4, .int (x15 + 1)), (0, .ref h), (2, .int a2), (3, .int a3)]) hx hb dX6_behind_81 hl (k := 3) rfl (congrArg (fun z => x15 + z) (show Int32.ofInt (1) = 1 by decide)) (by decide) rfl (fun ls hl => ?_)
                    refine lv_goto (tgt := 60) hx hb dX6_behind_84 (by decide) ?_
                    exact ihm_behind_l60 _ _ _ _ _ hs hM (lv_sub hl [1, 2, 3, 0] rfl)
            exact Lm_behind_l60 NF _ _ _ _ _ hs hM (lv_sub hl [1, 3, 4, 0] rfl)
          · replace hs := ifn c20 hs
            exact Ek41_4 _ _ _ hs hM (lv_sub hl [0] rfl)
      · replace hs := ifn c22 hs
        exact Ek23_2 _ _ _ hs hM (lv_sub hl [0] rfl)
  · replace hs := ifp c26 hs
    refine lv_aload_n hx hb dX6_behind_8 rfl (lv_at hl 0 rfl) ?_
    refine lv_iconst (v := (-1)) hx hb dX6_behind_9 (by decide) ?_
    refine m_calli (rest := []) (av := fun ad => [.int (-1)]) X hK hA hM (met_no l (-1) _ _ hs) iX6_no q1662 ⟨Nat.le_of_ble_eq_true rfl, Nat.le_of_ble_eq_true rfl⟩ rfl hl.1 rfl (Nat.le_of_ble_eq_true rfl) dX6_behind_10 (fun r26 S25 H locs hs hM => ?_)
    exact m_reti X hK hM hs dX6_behind_13
