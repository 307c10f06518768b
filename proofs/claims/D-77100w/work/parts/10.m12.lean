/-! the reference, walked: text bareOnes linesIn costIn counts -/
noncomputable def LX4_text_30 (q : Int32 × mS) : Option ((Int32 × mS) ⊕ (mS)) :=
  if (q.2.1 26) ≤ q.1 then some (Sum.inr q.2) else (mald q.2 31 q.1).bind (fun v4 => (mast q.2 27 q.1 v4).bind (fun σ5 => (mald σ5 32 q.1).bind (fun v6 => (mast σ5 28 q.1 v6).bind (fun σ7 => (mald σ7 33 q.1).bind (fun v8 => (mast σ7 29 q.1 v8).bind (fun σ9 => some (Sum.inl (q.1 + (1 : Int32), σ9))))))))
noncomputable def fX4_text (σ : mS) : Option (Int32 × mS) :=
  (fX4_faultOf σ).bind (fun e1 => (mput e1.2 25 (0 : Int32)).bind (fun σ2 => if e1.1 = (-1 : Int32) then (mput σ2 26 (σ2.1 30)).bind (fun σ3 => (lpw (LX4_text_30) ((0 : Int32), σ3)).bind (fun b10 => some ((b10.1 26), b10))) else some (((-100 : Int32) - e1.1), σ2)))
theorem wi_X4_text : wInfV yX4_text cX4_text 3 (Option.some Jvm.ClassFile.FieldType.int) 0 := ⟨q2969, q2970, q116, q2971, (by decide +kernel), (by decide +kernel), (by decide +kernel)⟩
set_option maxHeartbeats 4000000 in
set_option maxRecDepth 100000 in
theorem wbLX4_text_30 {l : Launch} {G : mG} {p : Program} {e : Env} {s : State} {m : MethodId} {args : Array Value} {below : List Frame} {meth : Method} {c : Code} {Q : State → Prop} {q : Int32 × mS} {res : (Int32 × mS) ⊕ (mS)} (S : mSt G p m c cX4_text 3 s args meth (Option.some Jvm.ClassFile.FieldType.int)) (hf : LX4_text_30 q = some res) (hK : ∀ q, res = Sum.inl q → (∀ (H : Heap) (locs : List Loc) (ls : Array Slot), mR G q.2 H → va_S (mA G) s.heap H locs → lv_has ls 3 [(0, .ref (mo G)), (2, .int q.1)] → W p l e (mRm 3 76) s m args below meth c H locs 0 0 Q (F0 m 30 ls []))) (hE80 : ∀ b, res = Sum.inr b → (∀ (H : Heap) (locs : List Loc) (ls : Array Slot), mR G b H → va_S (mA G) s.heap H locs → lv_has ls 3 [(0, .ref (mo G))] → W p l e (mRm 3 76) s m args below meth c H locs 0 0 Q (F0 m 80 ls []))) : (∀ (H : Heap) (locs : List Loc) (ls : Array Slot), mR G q.2 H → va_S (mA G) s.heap H locs → lv_has ls 3 [(0, .ref (mo G)), (2, .int q.1)] → W p l e (mRm 3 76) s m args below meth c H locs 0 0 Q (F0 m 30 ls [])) := by
  replace hf : (if (q.2.1 26) ≤ q.1 then some (Sum.inr q.2) else (mald q.2 31 q.1).bind (fun v4 => (mast q.2 27 q.1 v4).bind (fun σ5 => (mald σ5 32 q.1).bind (fun v6 => (mast σ5 28 q.1 v6).bind (fun σ7 => (mald σ7 33 q.1).bind (fun v8 => (mast σ7 29 q.1 v8).bind (fun σ9 => some (Sum.inl (q.1 + (1 : Int32), σ9))))))))) = some res := hf
  obtain ⟨hx, hb, hml, hown, hts⟩ := S.1.1
  intro H locs ls hR hS hl
  refine lv_iload_n hx hb dX4_text_30 rfl (lv_at hl 1 rfl) ?_
  refine lv_aload_n hx hb dX4_text_31 rfl (lv_at hl 0 rfl) ?_
  refine m_geti (k := 26) S hR (by decide) (by decide) q2552 dX4_text_32 ?_
  refine lv_icmp_ge (tgt := 80) hx hb dX4_text_35 (by decide) (fun c_35 => ?_) (fun c_35 => ?_)
  · replace hf := o_t hf c_35
    exact hE80 _ (Option.some.inj hf).symm _ _ _ hR hS (lv_sub (l' := [(0, .ref (mo G))]) hl [0] rfl)
  · replace hf := o_f hf c_35
    refine lv_aload_n hx hb dX4_text_38 rfl (lv_at hl 0 rfl) ?_
    refine m_geta (k := 27) S hR (by decide) (by decide) q2553 dX4_text_39 ?_
    refine lv_iload_n hx hb dX4_text_42 rfl (lv_at hl 1 rfl) ?_
    refine lv_aload_n hx hb dX4_text_43 rfl (lv_at hl 0 rfl) ?_
    refine m_geta (k := 31) S hR (by decide) (by decide) q2557 dX4_text_44 ?_
    refine lv_iload_n hx hb dX4_text_47 rfl (lv_at hl 1 rfl) ?_
    refine k_bind hf (fun v4 hv4 hf => ?_)
    refine m_iald S hR hv4 dX4_text_48 ?_
    refine k_bind hf (fun σ5 hσ5 hf => ?_)
    refine m_iast S hR hS hσ5 dX4_text_49 (fun H locs hR hS => ?_)
    refine lv_aload_n hx hb dX4_text_50 rfl (lv_at hl 0 rfl) ?_
    refine m_geta (k := 28) S hR (by decide) (by decide) q2554 dX4_text_51 ?_
    refine lv_iload_n hx hb dX4_text_54 rfl (lv_at hl 1 rfl) ?_
    refine lv_aload_n hx hb dX4_text_55 rfl (lv_at hl 0 rfl) ?_
    refine m_geta (k := 32) S hR (by decide) (by decide) q2558 dX4_text_56 ?_
    refine lv_iload_n hx hb dX4_text_59 rfl (lv_at hl 1 rfl) ?_
    refine k_bind hf (fun v6 hv6 hf => ?_)
    refine m_iald S hR hv6 dX4_text_60 ?_
    refine k_bind hf (fun σ7 hσ7 hf => ?_)
    refine m_iast S hR hS hσ7 dX4_text_61 (fun H locs hR hS => ?_)
    refine lv_aload_n hx hb dX4_text_62 rfl (lv_at hl 0 rfl) ?_
    refine m_geta (k := 29) S hR (by decide) (by decide) q2555 dX4_text_63 ?_
    refine lv_iload_n hx hb dX4_text_66 rfl (lv_at hl 1 rfl) ?_
    refine lv_aload_n hx hb dX4_text_67 rfl (lv_at hl 0 rfl) ?_
    refine m_geta (k := 33) S hR (by decide) (by decide) q2559 dX4_text_68 ?_
    refine lv_iload_n hx hb dX4_text_71 rfl (lv_at hl 1 rfl) ?_
    refine k_bind hf (fun v8 hv8 hf => ?_)
    refine m_iald S hR hv8 dX4_text_72 ?_
    refine k_bind hf (fun σ9 hσ9 hf => ?_)
    refine m_iast S hR hS hσ9 dX4_text_73 (fun H locs hR hS => ?_)
    refine lv_iinc (lv' := [(2, .int (q.1 + (1 : Int32))), (0, .ref (mo G))]) hx hb dX4_text_74 hl (k := 1) rfl (m_inc (by decide)) (by decide) rfl (fun ls hl => ?_)
    refine lv_goto (tgt := 30) hx hb dX4_text_77 (by decide) ?_
    exact hK _ (Option.some.inj hf).symm _ _ _ hR hS (lv_sub (l' := [(0, .ref (mo G)), (2, .int (q.1 + (1 : Int32)))]) hl [1, 0] rfl)
set_option maxHeartbeats 4000000 in
set_option maxRecDepth 100000 in
theorem wLX4_text_30 {l : Launch} {G : mG} {p : Program} {e : Env} {s : State} {m : MethodId} {args : Array Value} {below : List Frame} {meth : Method} {c : Code} {Q : State → Prop} {q : Int32 × mS} {res : mS} (S : mSt G p m c cX4_text 3 s args meth (Option.some Jvm.ClassFile.FieldType.int)) (h : lpw (LX4_text_30) q = some res) (hE80 : ∀ b, res = b → (∀ (H : Heap) (locs : List Loc) (ls : Array Slot), mR G b H → va_S (mA G) s.heap H locs → lv_has ls 3 [(0, .ref (mo G))] → W p l e (mRm 3 76) s m args below meth c H locs 0 0 Q (F0 m 80 ls []))) : (∀ (H : Heap) (locs : List Loc) (ls : Array Slot), mR G q.2 H → va_S (mA G) s.heap H locs → lv_has ls 3 [(0, .ref (mo G)), (2, .int q.1)] → W p l e (mRm 3 76) s m args below meth c H locs 0 0 Q (F0 m 30 ls [])) :=
  lpw_go _ (fun q => (∀ (H : Heap) (locs : List Loc) (ls : Array Slot), mR G q.2 H → va_S (mA G) s.heap H locs → lv_has ls 3 [(0, .ref (mo G)), (2, .int q.1)] → W p l e (mRm 3 76) s m args below meth c H locs 0 0 Q (F0 m 30 ls []))) (fun b0 => (∀ b, b0 = b → (∀ (H : Heap) (locs : List Loc) (ls : Array Slot), mR G b H → va_S (mA G) s.heap H locs → lv_has ls 3 [(0, .ref (mo G))] → W p l e (mRm 3 76) s m args below meth c H locs 0 0 Q (F0 m 80 ls [])))) (fun q x hf hK hX => wbLX4_text_30 S hf hK (fun b eb => (hX _ eb) b rfl)) q res h hE80
set_option maxHeartbeats 4000000 in
set_option maxRecDepth 100000 in
theorem met_X4_text {l : Launch} {G : mG} {σ : mS} {res : Int32 × mS} (hf : fX4_text σ = some res) : mMet l yX4_text cX4_text 3 (Option.some Jvm.ClassFile.FieldType.int) (mRm 3 76) G [.ref (mo G)] σ (some (.int res.1)) res.2 := by
  replace hf : ((fX4_faultOf σ).bind (fun e1 => (mput e1.2 25 (0 : Int32)).bind (fun σ2 => if e1.1 = (-1 : Int32) then (mput σ2 26 (σ2.1 30)).bind (fun σ3 => (lpw (LX4_text_30) ((0 : Int32), σ3)).bind (fun b10 => some ((b10.1 26), b10))) else some (((-100 : Int32) - e1.1), σ2)))) = some res := hf
  refine m_start (by decide) rfl (Nat.le_of_ble_eq_true rfl) ?_
  intro p e s m args below meth c S hR hS ls hl
  obtain ⟨hx, hb, hml, hown, hts⟩ := S.1.1
  have hl : lv_has ls 3 [(0, .ref (mo G))] := hl
  refine lv_aload_n hx hb dX4_text_0 rfl (lv_at hl 0 rfl) ?_
  refine k_bind hf (fun e1 he1 hf => ?_)
  refine m_call (As := []) (rest := []) S hR hS (met_X4_faultOf he1) wi_X4_faultOf rfl q2972 ⟨rfl, rfl⟩ ⟨Nat.le_of_ble_eq_true rfl, Nat.le_of_ble_eq_true rfl⟩ rfl hl.1 rfl (Nat.le_of_ble_eq_true rfl) dX4_text_1 (fun H locs hR hS => ?_)
  refine lv_istore_n (lv' := [(1, .int e1.1), (0, .ref (mo G))]) hx hb dX4_text_4 rfl hl (by decide) rfl (fun ls hl => ?_)
  refine lv_aload_n hx hb dX4_text_5 rfl (lv_at hl 1 rfl) ?_
  refine lv_iconst (v := 0) hx hb dX4_text_6 (by decide) ?_
  refine k_bind hf (fun σ2 hσ2 hf => ?_)
  refine m_puti (k := 25) S hR hS hσ2 (by decide) (by decide) rfl rfl rfl rfl q2551 dX4_text_7 (fun H locs hR hS => ?_)
  refine lv_iload_n hx hb dX4_text_10 rfl (lv_at hl 0 rfl) ?_
  refine lv_iconst (v := -1) hx hb dX4_text_11 (by decide) ?_
  refine lv_icmp_eq (tgt := 20) hx hb dX4_text_12 (by decide) (fun c_12 => ?_) (fun c_12 => ?_)
  · replace hf := o_t hf c_12
    refine lv_aload_n hx hb dX4_text_20 rfl (lv_at hl 1 rfl) ?_
    refine lv_aload_n hx hb dX4_text_21 rfl (lv_at hl 1 rfl) ?_
    refine m_geti (k := 30) S hR (by decide) (by decide) q2556 dX4_text_22 ?_
    refine k_bind hf (fun σ3 hσ3 hf => ?_)
    refine m_puti (k := 26) S hR hS hσ3 (by decide) (by decide) rfl rfl rfl rfl q2552 dX4_text_25 (fun H locs hR hS => ?_)
    refine lv_iconst (v := 0) hx hb dX4_text_28 (by decide) ?_
    refine lv_istore_n (lv' := [(2, .int (0 : Int32)), (1, .int e1.1), (0, .ref (mo G))]) hx hb dX4_text_29 rfl hl (by decide) rfl (fun ls hl => ?_)
    refine k_bind hf (fun b10 hb10 hf => ?_)
    refine wLX4_text_30 S hb10 ?_ _ _ _ hR hS (lv_sub (l' := [(0, .ref (mo G)), (2, .int (0 : Int32))]) hl [2, 0] rfl)
    · intro b eb; subst eb; intro H locs ls hR hS hl
      refine lv_aload_n hx hb dX4_text_80 rfl (lv_at hl 0 rfl) ?_
      refine m_geti (k := 26) S hR (by decide) (by decide) q2552 dX4_text_81 ?_
      obtain rfl := Option.some.inj hf
      exact m_iret S hR hS rfl dX4_text_84
  · replace hf := o_f hf c_12
    refine lv_bipush (v := -100) hx hb dX4_text_15 (by decide) ?_
    refine lv_iload_n hx hb dX4_text_17 rfl (lv_at hl 0 rfl) ?_
    refine lv_isub hx hb dX4_text_18 ?_
    obtain rfl := Option.some.inj hf
    exact m_iret S hR hS rfl dX4_text_19

noncomputable def LX4_bareOnes_36 (y1 : Int32) (q : Int32 × mS) : Option ((Int32 × mS) ⊕ (mS)) :=
  if (q.2.1 26) ≤ q.1 then some (Sum.inr q.2) else (mald q.2 29 q.1).bind (fun v6 => if v6 = y1 then (mlld q.2 35 y1).bind (fun v7 => (mlld q.2 34 q.1).bind (fun v8 => (mlld q.2 38 q.1).bind (fun v9 => (mlst q.2 35 y1 (v7 * (v8 + v9))).bind (fun σ10 => (mlld σ10 34 y1).bind (fun v11 => (mlld σ10 35 q.1).bind (fun v12 => (mlld σ10 34 q.1).bind (fun v13 => (mlst σ10 34 y1 (v11 * (v12 + v13))).bind (fun σ14 => (mlld σ14 38 y1).bind (fun v15 => (mlld σ14 34 q.1).bind (fun v16 => (mlst σ14 38 y1 (v15 * v16)).bind (fun σ17 => some (Sum.inl (q.1 + (1 : Int32), σ17))))))))))))) else some (Sum.inl (q.1 + (1 : Int32), q.2)))
noncomputable def LX4_bareOnes_7 (q : Int32 × mS) : Option ((Int32 × mS) ⊕ (mS)) :=
  if q.1 < (0 : Int32) then some (Sum.inr q.2) else (mlst q.2 35 q.1 (1 : Int64)).bind (fun σ2 => (mlst σ2 34 q.1 (1 : Int64)).bind (fun σ3 => (mlst σ3 38 q.1 (1 : Int64)).bind (fun σ4 => (some (q.1 + (1 : Int32))).bind (fun v5 => (lpw (LX4_bareOnes_36 q.1) (v5, σ4)).bind (fun b18 => (mlld b18 34 q.1).bind (fun v19 => (mlld b18 38 q.1).bind (fun v20 => (mlst b18 34 q.1 (v19 - v20)).bind (fun σ21 => (some (q.1 + (-1 : Int32))).bind (fun v22 => some (Sum.inl (v22, σ21)))))))))))
noncomputable def fX4_bareOnes (σ : mS) : Option (Int64 × mS) :=
  (some ((σ.1 26) - (1 : Int32))).bind (fun v1 => (lpw (LX4_bareOnes_7) (v1, σ)).bind (fun b23 => (mlld b23 35 (0 : Int32)).bind (fun v24 => (mlld b23 34 (0 : Int32)).bind (fun v25 => some ((v24 + v25), b23)))))
theorem wi_X4_bareOnes : wInfV yX4_bareOnes cX4_bareOnes 3 (Option.some Jvm.ClassFile.FieldType.long) 0 := ⟨q2995, qs94, q116, q2996, (by decide +kernel), (by decide +kernel), (by decide +kernel)⟩
set_option maxHeartbeats 4000000 in
set_option maxRecDepth 100000 in
theorem wbLX4_bareOnes_36 {l : Launch} {G : mG} {p : Program} {e : Env} {s : State} {m : MethodId} {args : Array Value} {below : List Frame} {meth : Method} {c : Code} {Q : State → Prop} {y1 : Int32} {q : Int32 × mS} {res : (Int32 × mS) ⊕ (mS)} (S : mSt G p m c cX4_bareOnes 3 s args meth (Option.some Jvm.ClassFile.FieldType.long)) (hf : LX4_bareOnes_36 y1 q = some res) (hK : ∀ q, res = Sum.inl q → (∀ (H : Heap) (locs : List Loc) (ls : Array Slot), mR G q.2 H → va_S (mA G) s.heap H locs → lv_has ls 3 [(0, .ref (mo G)), (1, .int y1), (2, .int q.1)] → W p l e (mRm 0 0) s m args below meth c H locs 0 0 Q (F0 m 36 ls []))) (hE122 : ∀ b, res = Sum.inr b → (∀ (H : Heap) (locs : List Loc) (ls : Array Slot), mR G b H → va_S (mA G) s.heap H locs → lv_has ls 3 [(0, .ref (mo G)), (1, .int y1)] → W p l e (mRm 0 0) s m args below meth c H locs 0 0 Q (F0 m 122 ls []))) : (∀ (H : Heap) (locs : List Loc) (ls : Array Slot), mR G q.2 H → va_S (mA G) s.heap H locs → lv_has ls 3 [(0, .ref (mo G)), (1, .int y1), (2, .int q.1)] → W p l e (mRm 0 0) s m args below meth c H locs 0 0 Q (F0 m 36 ls [])) := by
  replace hf : (if (q.2.1 26) ≤ q.1 then some (Sum.inr q.2) else (mald q.2 29 q.1).bind (fun v6 => if v6 = y1 then (mlld q.2 35 y1).bind (fun v7 => (mlld q.2 34 q.1).bind (fun v8 => (mlld q.2 38 q.1).bind (fun v9 => (mlst q.2 35 y1 (v7 * (v8 + v9))).bind (fun σ10 => (mlld σ10 34 y1).bind (fun v11 => (mlld σ10 35 q.1).bind (fun v12 => (mlld σ10 34 q.1).bind (fun v13 => (mlst σ10 34 y1 (v11 * (v12 + v13))).bind (fun σ14 => (mlld σ14 38 y1).bind (fun v15 => (mlld σ14 34 q.1).bind (fun v16 => (mlst σ14 38 y1 (v15 * v16)).bind (fun σ17 => some (Sum.inl (q.1 + (1 : Int32), σ17))))))))))))) else some (Sum.inl (q.1 + (1 : Int32), q.2)))) = some res := hf
  obtain ⟨hx, hb, hml, hown, hts⟩ := S.1.1
  intro H locs ls hR hS hl
  refine lv_iload_n hx hb dX4_bareOnes_36 rfl (lv_at hl 2 rfl) ?_
  refine lv_aload_n hx hb dX4_bareOnes_37 rfl (lv_at hl 0 rfl) ?_
  refine m_geti (k := 26) S hR (by decide) (by decide) q2552 dX4_bareOnes_38 ?_
  refine lv_icmp_ge (tgt := 122) hx hb dX4_bareOnes_41 (by decide) (fun c_41 => ?_) (fun c_41 => ?_)
  · replace hf := o_t hf c_41
    exact hE122 _ (Option.some.inj hf).symm _ _ _ hR hS (lv_sub (l' := [(0, .ref (mo G)), (1, .int y1)]) hl [0, 1] rfl)
  · replace hf := o_f hf c_41
    refine lv_aload_n hx hb dX4_bareOnes_44 rfl (lv_at hl 0 rfl) ?_
    refine m_geta (k := 29) S hR (by decide) (by decide) q2555 dX4_bareOnes_45 ?_
    refine lv_iload_n hx hb dX4_bareOnes_48 rfl (lv_at hl 2 rfl) ?_
    refine k_bind hf (fun v6 hv6 hf => ?_)
    refine m_iald S hR hv6 dX4_bareOnes_49 ?_
    refine lv_iload_n hx hb dX4_bareOnes_50 rfl (lv_at hl 1 rfl) ?_
    refine lv_icmp_eq (tgt := 57) hx hb dX4_bareOnes_51 (by decide) (fun c_51 => ?_) (fun c_51 => ?_)
    · replace hf := o_t hf c_51
      refine lv_aload_n hx hb dX4_bareOnes_57 rfl (lv_at hl 0 rfl) ?_
      refine m_geta (k := 35) S hR (by decide) (by decide) q2561 dX4_bareOnes_58 ?_
      refine lv_iload_n hx hb dX4_bareOnes_61 rfl (lv_at hl 1 rfl) ?_
      refine lv_dup2_11 hx hb dX4_bareOnes_62 rfl rfl ?_
      refine k_bind hf (fun v7 hv7 hf => ?_)
      refine m_lald S hR hv7 dX4_bareOnes_63 ?_
      refine lv_aload_n hx hb dX4_bareOnes_64 rfl (lv_at hl 0 rfl) ?_
      refine m_geta (k := 34) S hR (by decide) (by decide) q2560 dX4_bareOnes_65 ?_
      refine lv_iload_n hx hb dX4_bareOnes_68 rfl (lv_at hl 2 rfl) ?_
      refine k_bind hf (fun v8 hv8 hf => ?_)
      refine m_lald S hR hv8 dX4_bareOnes_69 ?_
      refine lv_aload_n hx hb dX4_bareOnes_70 rfl (lv_at hl 0 rfl) ?_
      refine m_geta (k := 38) S hR (by decide) (by decide) q2564 dX4_bareOnes_71 ?_
      refine lv_iload_n hx hb dX4_bareOnes_74 rfl (lv_at hl 2 rfl) ?_
      refine k_bind hf (fun v9 hv9 hf => ?_)
      refine m_lald S hR hv9 dX4_bareOnes_75 ?_
      refine lv_ladd hx hb dX4_bareOnes_76 ?_
      refine lv_lmul hx hb dX4_bareOnes_77 ?_
      refine k_bind hf (fun σ10 hσ10 hf => ?_)
      refine m_last S hR hS hσ10 dX4_bareOnes_78 (fun H locs hR hS => ?_)
      refine lv_aload_n hx hb dX4_bareOnes_79 rfl (lv_at hl 0 rfl) ?_
      refine m_geta (k := 34) S hR (by decide) (by decide) q2560 dX4_bareOnes_80 ?_
      refine lv_iload_n hx hb dX4_bareOnes_83 rfl (lv_at hl 1 rfl) ?_
      refine lv_dup2_11 hx hb dX4_bareOnes_84 rfl rfl ?_
      refine k_bind hf (fun v11 hv11 hf => ?_)
      refine m_lald S hR hv11 dX4_bareOnes_85 ?_
      refine lv_aload_n hx hb dX4_bareOnes_86 rfl (lv_at hl 0 rfl) ?_
      refine m_geta (k := 35) S hR (by decide) (by decide) q2561 dX4_bareOnes_87 ?_
      refine lv_iload_n hx hb dX4_bareOnes_90 rfl (lv_at hl 2 rfl) ?_
      refine k_bind hf (fun v12 hv12 hf => ?_)
      refine m_lald S hR hv12 dX4_bareOnes_91 ?_
      refine lv_aload_n hx hb dX4_bareOnes_92 rfl (lv_at hl 0 rfl) ?_
      refine m_geta (k := 34) S hR (by decide) (by decide) q2560 dX4_bareOnes_93 ?_
      refine lv_iload_n hx hb dX4_bareOnes_96 rfl (lv_at hl 2 rfl) ?_
      refine k_bind hf (fun v13 hv13 hf => ?_)
      refine m_lald S hR hv13 dX4_bareOnes_97 ?_
      refine lv_ladd hx hb dX4_bareOnes_98 ?_
      refine lv_lmul hx hb dX4_bareOnes_99 ?_
      refine k_bind hf (fun σ14 hσ14 hf => ?_)
      refine m_last S hR hS hσ14 dX4_bareOnes_100 (fun H locs hR hS => ?_)
      refine lv_aload_n hx hb dX4_bareOnes_101 rfl (lv_at hl 0 rfl) ?_
      refine m_geta (k := 38) S hR (by decide) (by decide) q2564 dX4_bareOnes_102 ?_
      refine lv_iload_n hx hb dX4_bareOnes_105 rfl (lv_at hl 1 rfl) ?_
      refine lv_dup2_11 hx hb dX4_bareOnes_106 rfl rfl ?_
      refine k_bind hf (fun v15 hv15 hf => ?_)
      refine m_lald S hR hv15 dX4_bareOnes_107 ?_
      refine lv_aload_n hx hb dX4_bareOnes_108 rfl (lv_at hl 0 rfl) ?_
      refine m_geta (k := 34) S hR (by decide) (by decide) q2560 dX4_bareOnes_109 ?_
      refine lv_iload_n hx hb dX4_bareOnes_112 rfl (lv_at hl 2 rfl) ?_
      refine k_bind hf (fun v16 hv16 hf => ?_)
      refine m_lald S hR hv16 dX4_bareOnes_113 ?_
      refine lv_lmul hx hb dX4_bareOnes_114 ?_
      refine k_bind hf (fun σ17 hσ17 hf => ?_)
      refine m_last S hR hS hσ17 dX4_bareOnes_115 (fun H locs hR hS => ?_)
      refine lv_iinc (lv' := [(2, .int (q.1 + (1 : Int32))), (0, .ref (mo G)), (1, .int y1)]) hx hb dX4_bareOnes_116 hl (k := 2) rfl (m_inc (by decide)) (by decide) rfl (fun ls hl => ?_)
      refine lv_goto (tgt := 36) hx hb dX4_bareOnes_119 (by decide) ?_
      exact hK _ (Option.some.inj hf).symm _ _ _ hR hS (lv_sub (l' := [(0, .ref (mo G)), (1, .int y1), (2, .int (q.1 + (1 : Int32)))]) hl [1, 2, 0] rfl)
    · replace hf := o_f hf c_51
      refine lv_goto (tgt := 116) hx hb dX4_bareOnes_54 (by decide) ?_
      refine lv_iinc (lv' := [(2, .int (q.1 + (1 : Int32))), (0, .ref (mo G)), (1, .int y1)]) hx hb dX4_bareOnes_116 hl (k := 2) rfl (m_inc (by decide)) (by decide) rfl (fun ls hl => ?_)
      refine lv_goto (tgt := 36) hx hb dX4_bareOnes_119 (by decide) ?_
      exact hK _ (Option.some.inj hf).symm _ _ _ hR hS (lv_sub (l' := [(0, .ref (mo G)), (1, .int y1), (2, .int (q.1 + (1 : Int32)))]) hl [1, 2, 0] rfl)
set_option maxHeartbeats 4000000 in
set_option maxRecDepth 100000 in
theorem wLX4_bareOnes_36 {l : Launch} {G : mG} {p : Program} {e : Env} {s : State} {m : MethodId} {args : Array Value} {below : List Frame} {meth : Method} {c : Code} {Q : State → Prop} {y1 : Int32} {q : Int32 × mS} {res : mS} (S : mSt G p m c cX4_bareOnes 3 s args meth (Option.some Jvm.ClassFile.FieldType.long)) (h : lpw (LX4_bareOnes_36 y1) q = some res) (hE122 : ∀ b, res = b → (∀ (H : Heap) (locs : List Loc) (ls : Array Slot), mR G b H → va_S (mA G) s.heap H locs → lv_has ls 3 [(0, .ref (mo G)), (1, .int y1)] → W p l e (mRm 0 0) s m args below meth c H locs 0 0 Q (F0 m 122 ls []))) : (∀ (H : Heap) (locs : List Loc) (ls : Array Slot), mR G q.2 H → va_S (mA G) s.heap H locs → lv_has ls 3 [(0, .ref (mo G)), (1, .int y1), (2, .int q.1)] → W p l e (mRm 0 0) s m args below meth c H locs 0 0 Q (F0 m 36 ls [])) :=
  lpw_go _ (fun q => (∀ (H : Heap) (locs : List Loc) (ls : Array Slot), mR G q.2 H → va_S (mA G) s.heap H locs → lv_has ls 3 [(0, .ref (mo G)), (1, .int y1), (2, .int q.1)] → W p l e (mRm 0 0) s m args below meth c H locs 0 0 Q (F0 m 36 ls []))) (fun b0 => (∀ b, b0 = b → (∀ (H : Heap) (locs : List Loc) (ls : Array Slot), mR G b H → va_S (mA G) s.heap H locs → lv_has ls 3 [(0, .ref (mo G)), (1, .int y1)] → W p l e (mRm 0 0) s m args below meth c H locs 0 0 Q (F0 m 122 ls [])))) (fun q x hf hK hX => wbLX4_bareOnes_36 S hf hK (fun b eb => (hX _ eb) b rfl)) q res h hE122
set_option maxHeartbeats 4000000 in
set_option maxRecDepth 100000 in
theorem wbLX4_bareOnes_7 {l : Launch} {G : mG} {p : Program} {e : Env} {s : State} {m : MethodId} {args : Array Value} {below : List Frame} {meth : Method} {c : Code} {Q : State → Prop} {q : Int32 × mS} {res : (Int32 × mS) ⊕ (mS)} (S : mSt G p m c cX4_bareOnes 3 s args meth (Option.some Jvm.ClassFile.FieldType.long)) (hf : LX4_bareOnes_7 q = some res) (hK : ∀ q, res = Sum.inl q → (∀ (H : Heap) (locs : List Loc) (ls : Array Slot), mR G q.2 H → va_S (mA G) s.heap H locs → lv_has ls 3 [(0, .ref (mo G)), (1, .int q.1)] → W p l e (mRm 0 0) s m args below meth c H locs 0 0 Q (F0 m 7 ls []))) (hE143 : ∀ b, res = Sum.inr b → (∀ (H : Heap) (locs : List Loc) (ls : Array Slot), mR G b H → va_S (mA G) s.heap H locs → lv_has ls 3 [(0, .ref (mo G))] → W p l e (mRm 0 0) s m args below meth c H locs 0 0 Q (F0 m 143 ls []))) : (∀ (H : Heap) (locs : List Loc) (ls : Array Slot), mR G q.2 H → va_S (mA G) s.heap H locs → lv_has ls 3 [(0, .ref (mo G)), (1, .int q.1)] → W p l e (mRm 0 0) s m args below meth c H locs 0 0 Q (F0 m 7 ls [])) := by
  replace hf : (if q.1 < (0 : Int32) then some (Sum.inr q.2) else (mlst q.2 35 q.1 (1 : Int64)).bind (fun σ2 => (mlst σ2 34 q.1 (1 : Int64)).bind (fun σ3 => (mlst σ3 38 q.1 (1 : Int64)).bind (fun σ4 => (some (q.1 + (1 : Int32))).bind (fun v5 => (lpw (LX4_bareOnes_36 q.1) (v5, σ4)).bind (fun b18 => (mlld b18 34 q.1).bind (fun v19 => (mlld b18 38 q.1).bind (fun v20 => (mlst b18 34 q.1 (v19 - v20)).bind (fun σ21 => (some (q.1 + (-1 : Int32))).bind (fun v22 => some (Sum.inl (v22, σ21)))))))))))) = some res := hf
  obtain ⟨hx, hb, hml, hown, hts⟩ := S.1.1
  intro H locs ls hR hS hl
  refine lv_iload_n hx hb dX4_bareOnes_7 rfl (lv_at hl 1 rfl) ?_
  refine lv_if_lt (tgt := 143) hx hb dX4_bareOnes_8 (by decide) (fun c_8 => ?_) (fun c_8 => ?_)
  · replace hf := o_t hf c_8
    exact hE143 _ (Option.some.inj hf).symm _ _ _ hR hS (lv_sub (l' := [(0, .ref (mo G))]) hl [0] rfl)
  · replace hf := o_f hf c_8
    refine lv_aload_n hx hb dX4_bareOnes_11 rfl (lv_at hl 0 rfl) ?_
    refine m_geta (k := 35) S hR (by decide) (by decide) q2561 dX4_bareOnes_12 ?_
    refine lv_iload_n hx hb dX4_bareOnes_15 rfl (lv_at hl 1 rfl) ?_
    refine lv_lconst (v := 1) hx hb dX4_bareOnes_16 (by decide) ?_
    refine k_bind hf (fun σ2 hσ2 hf => ?_)
    refine m_last S hR hS hσ2 dX4_bareOnes_17 (fun H locs hR hS => ?_)
    refine lv_aload_n hx hb dX4_bareOnes_18 rfl (lv_at hl 0 rfl) ?_
    refine m_geta (k := 34) S hR (by decide) (by decide) q2560 dX4_bareOnes_19 ?_
    refine lv_iload_n hx hb dX4_bareOnes_22 rfl (lv_at hl 1 rfl) ?_
    refine lv_lconst (v := 1) hx hb dX4_bareOnes_23 (by decide) ?_
    refine k_bind hf (fun σ3 hσ3 hf => ?_)
    refine m_last S hR hS hσ3 dX4_bareOnes_24 (fun H locs hR hS => ?_)
    refine lv_aload_n hx hb dX4_bareOnes_25 rfl (lv_at hl 0 rfl) ?_
    refine m_geta (k := 38) S hR (by decide) (by decide) q2564 dX4_bareOnes_26 ?_
    refine lv_iload_n hx hb dX4_bareOnes_29 rfl (lv_at hl 1 rfl) ?_
    refine lv_lconst (v := 1) hx hb dX4_bareOnes_30 (by decide) ?_
    refine k_bind hf (fun σ4 hσ4 hf => ?_)
    refine m_last S hR hS hσ4 dX4_bareOnes_31 (fun H locs hR hS => ?_)
    refine lv_iload_n hx hb dX4_bareOnes_32 rfl (lv_at hl 1 rfl) ?_
    refine lv_iconst (v := 1) hx hb dX4_bareOnes_33 (by decide) ?_
    refine lv_iadd hx hb dX4_bareOnes_34 ?_
    refine k_bind hf (fun v5 hv5 hf => ?_)
    refine m_nmi hv5 ?_
    refine lv_istore_n (lv' := [(2, .int v5), (0, .ref (mo G)), (1, .int q.1)]) hx hb dX4_bareOnes_35 rfl hl (by decide) rfl (fun ls hl => ?_)
    refine k_bind hf (fun b18 hb18 hf => ?_)
    refine wLX4_bareOnes_36 S hb18 ?_ _ _ _ hR hS (lv_sub (l' := [(0, .ref (mo G)), (1, .int q.1), (2, .int v5)]) hl [1, 2, 0] rfl)
    · intro b eb; subst eb; intro H locs ls hR hS hl
      refine lv_aload_n hx hb dX4_bareOnes_122 rfl (lv_at hl 0 rfl) ?_
      refine m_geta (k := 34) S hR (by decide) (by decide) q2560 dX4_bareOnes_123 ?_
      refine lv_iload_n hx hb dX4_bareOnes_126 rfl (lv_at hl 1 rfl) ?_
      refine lv_dup2_11 hx hb dX4_bareOnes_127 rfl rfl ?_
      refine k_bind hf (fun v19 hv19 hf => ?_)
      refine m_lald S hR hv19 dX4_bareOnes_128 ?_
      refine lv_aload_n hx hb dX4_bareOnes_129 rfl (lv_at hl 0 rfl) ?_
      refine m_geta (k := 38) S hR (by decide) (by decide) q2564 dX4_bareOnes_130 ?_
      refine lv_iload_n hx hb dX4_bareOnes_133 rfl (lv_at hl 1 rfl) ?_
      refine k_bind hf (fun v20 hv20 hf => ?_)
      refine m_lald S hR hv20 dX4_bareOnes_134 ?_
      refine lv_lsub hx hb dX4_bareOnes_135 ?_
      refine k_bind hf (fun σ21 hσ21 hf => ?_)
      refine m_last S hR hS hσ21 dX4_bareOnes_136 (fun H locs hR hS => ?_)
      refine k_bind hf (fun v22 hv22 hf => ?_)
      refine lv_iinc (lv' := [(1, .int v22), (0, .ref (mo G))]) hx hb dX4_bareOnes_137 hl (k := 1) rfl ((m_inc (by decide)).trans (Option.some.inj hv22)) (by decide) rfl (fun ls hl => ?_)
      refine lv_goto (tgt := 7) hx hb dX4_bareOnes_140 (by decide) ?_
      exact hK _ (Option.some.inj hf).symm _ _ _ hR hS (lv_sub (l' := [(0, .ref (mo G)), (1, .int v22)]) hl [1, 0] rfl)
set_option maxHeartbeats 4000000 in
set_option maxRecDepth 100000 in
theorem wLX4_bareOnes_7 {l : Launch} {G : mG} {p : Program} {e : Env} {s : State} {m : MethodId} {args : Array Value} {below : List Frame} {meth : Method} {c : Code} {Q : State → Prop} {q : Int32 × mS} {res : mS} (S : mSt G p m c cX4_bareOnes 3 s args meth (Option.some Jvm.ClassFile.FieldType.long)) (h : lpw (LX4_bareOnes_7) q = some res) (hE143 : ∀ b, res = b → (∀ (H : Heap) (locs : List Loc) (ls : Array Slot), mR G b H → va_S (mA G) s.heap H locs → lv_has ls 3 [(0, .ref (mo G))] → W p l e (mRm 0 0) s m args below meth c H locs 0 0 Q (F0 m 143 ls []))) : (∀ (H : Heap) (locs : List Loc) (ls : Array Slot), mR G q.2 H → va_S (mA G) s.heap H locs → lv_has ls 3 [(0, .ref (mo G)), (1, .int q.1)] → W p l e (mRm 0 0) s m args below meth c H locs 0 0 Q (F0 m 7 ls [])) :=
  lpw_go _ (fun q => (∀ (H : Heap) (locs : List Loc) (ls : Array Slot), mR G q.2 H → va_S (mA G) s.heap H locs → lv_has ls 3 [(0, .ref (mo G)), (1, .int q.1)] → W p l e (mRm 0 0) s m args below meth c H locs 0 0 Q (F0 m 7 ls []))) (fun b0 => (∀ b, b0 = b → (∀ (H : Heap) (locs : List Loc) (ls : Array Slot), mR G b H → va_S (mA G) s.heap H locs → lv_has ls 3 [(0, .ref (mo G))] → W p l e (mRm 0 0) s m args below meth c H locs 0 0 Q (F0 m 143 ls [])))) (fun q x hf hK hX => wbLX4_bareOnes_7 S hf hK (fun b eb => (hX _ eb) b rfl)) q res h hE143
set_option maxHeartbeats 4000000 in
set_option maxRecDepth 100000 in
theorem met_X4_bareOnes {l : Launch} {G : mG} {σ : mS} {res : Int64 × mS} (hf : fX4_bareOnes σ = some res) : mMet l yX4_bareOnes cX4_bareOnes 3 (Option.some Jvm.ClassFile.FieldType.long) (mRm 0 0) G [.ref (mo G)] σ (some (.long res.1)) res.2 := by
  replace hf : ((some ((σ.1 26) - (1 : Int32))).bind (fun v1 => (lpw (LX4_bareOnes_7) (v1, σ)).bind (fun b23 => (mlld b23 35 (0 : Int32)).bind (fun v24 => (mlld b23 34 (0 : Int32)).bind (fun v25 => some ((v24 + v25), b23)))))) = some res := hf
  refine m_start (by decide) rfl (Nat.le_of_ble_eq_true rfl) ?_
  intro p e s m args below meth c S hR hS ls hl
  obtain ⟨hx, hb, hml, hown, hts⟩ := S.1.1
  have hl : lv_has ls 3 [(0, .ref (mo G))] := hl
  refine lv_aload_n hx hb dX4_bareOnes_0 rfl (lv_at hl 0 rfl) ?_
  refine m_geti (k := 26) S hR (by decide) (by decide) q2552 dX4_bareOnes_1 ?_
  refine lv_iconst (v := 1) hx hb dX4_bareOnes_4 (by decide) ?_
  refine lv_isub hx hb dX4_bareOnes_5 ?_
  refine k_bind hf (fun v1 hv1 hf => ?_)
  refine m_nmi hv1 ?_
  refine lv_istore_n (lv' := [(1, .int v1), (0, .ref (mo G))]) hx hb dX4_bareOnes_6 rfl hl (by decide) rfl (fun ls hl => ?_)
  refine k_bind hf (fun b23 hb23 hf => ?_)
  refine wLX4_bareOnes_7 S hb23 ?_ _ _ _ hR hS (lv_sub (l' := [(0, .ref (mo G)), (1, .int v1)]) hl [1, 0] rfl)
  · intro b eb; subst eb; intro H locs ls hR hS hl
    refine lv_aload_n hx hb dX4_bareOnes_143 rfl (lv_at hl 0 rfl) ?_
    refine m_geta (k := 35) S hR (by decide) (by decide) q2561 dX4_bareOnes_144 ?_
    refine lv_iconst (v := 0) hx hb dX4_bareOnes_147 (by decide) ?_
    refine k_bind hf (fun v24 hv24 hf => ?_)
    refine m_lald S hR hv24 dX4_bareOnes_148 ?_
    refine lv_aload_n hx hb dX4_bareOnes_149 rfl (lv_at hl 0 rfl) ?_
    refine m_geta (k := 34) S hR (by decide) (by decide) q2560 dX4_bareOnes_150 ?_
    refine lv_iconst (v := 0) hx hb dX4_bareOnes_153 (by decide) ?_
    refine k_bind hf (fun v25 hv25 hf => ?_)
    refine m_lald S hR hv25 dX4_bareOnes_154 ?_
    refine lv_ladd hx hb dX4_bareOnes_155 ?_
    obtain rfl := Option.some.inj hf
    exact m_lret S hR hS dX4_bareOnes_156

noncomputable def LX4_linesIn_14 (y1 : Int32) (σ : mS) (q : Int32 × Int32) : Option ((Int32 × Int32) ⊕ (Int32)) :=
  if (σ.1 26) ≤ q.2 then some (Sum.inr q.1) else (mald σ 29 q.2).bind (fun v2 => if v2 = y1 then (some (q.1 + (1 : Int32))).bind (fun v4 => some (Sum.inl (v4, q.2 + (1 : Int32)))) else (some (q.1 + (0 : Int32))).bind (fun v3 => some (Sum.inl (v3, q.2 + (1 : Int32)))))
noncomputable def JX4_linesIn_9 (y1 : Int32) (z0 : Int32) (σ : mS) : Option Int32 :=
  (some (y1 + (1 : Int32))).bind (fun v1 => (lpw (LX4_linesIn_14 y1 σ) (z0, v1)).bind (fun b5 => some b5))
noncomputable def fX4_linesIn (x1 : Int32) (σ : mS) : Option Int32 :=
  if x1 = (0 : Int32) then JX4_linesIn_9 x1 (0 : Int32) σ else JX4_linesIn_9 x1 (1 : Int32) σ
theorem wi_X4_linesIn : wInfV yX4_linesIn cX4_linesIn 4 (Option.some Jvm.ClassFile.FieldType.int) 1 := ⟨q3007, qs97, q116, q3008, (by decide +kernel), (by decide +kernel), (by decide +kernel)⟩
set_option maxHeartbeats 4000000 in
set_option maxRecDepth 100000 in
theorem wbLX4_linesIn_14 {l : Launch} {G : mG} {p : Program} {e : Env} {s : State} {m : MethodId} {args : Array Value} {below : List Frame} {meth : Method} {c : Code} {Q : State → Prop} {y1 : Int32} {σ : mS} {q : Int32 × Int32} {res : (Int32 × Int32) ⊕ (Int32)} (S : mSt G p m c cX4_linesIn 4 s args meth (Option.some Jvm.ClassFile.FieldType.int)) (hf : LX4_linesIn_14 y1 σ q = some res) (hK : ∀ q, res = Sum.inl q → (∀ (H : Heap) (locs : List Loc) (ls : Array Slot), mR G σ H → va_S (mA G) s.heap H locs → lv_has ls 4 [(0, .ref (mo G)), (1, .int y1), (2, .int q.1), (3, .int q.2)] → W p l e (mRm 0 0) s m args below meth c H locs 0 0 Q (F0 m 14 ls []))) (hE46 : ∀ b, res = Sum.inr b → (∀ (H : Heap) (locs : List Loc) (ls : Array Slot), mR G σ H → va_S (mA G) s.heap H locs → lv_has ls 4 [(0, .ref (mo G)), (2, .int b)] → W p l e (mRm 0 0) s m args below meth c H locs 0 0 Q (F0 m 46 ls []))) : (∀ (H : Heap) (locs : List Loc) (ls : Array Slot), mR G σ H → va_S (mA G) s.heap H locs → lv_has ls 4 [(0, .ref (mo G)), (1, .int y1), (2, .int q.1), (3, .int q.2)] → W p l e (mRm 0 0) s m args below meth c H locs 0 0 Q (F0 m 14 ls [])) := by
  replace hf : (if (σ.1 26) ≤ q.2 then some (Sum.inr q.1) else (mald σ 29 q.2).bind (fun v2 => if v2 = y1 then (some (q.1 + (1 : Int32))).bind (fun v4 => some (Sum.inl (v4, q.2 + (1 : Int32)))) else (some (q.1 + (0 : Int32))).bind (fun v3 => some (Sum.inl (v3, q.2 + (1 : Int32)))))) = some res := hf
  obtain ⟨hx, hb, hml, hown, hts⟩ := S.1.1
  intro H locs ls hR hS hl
  refine lv_iload_n hx hb dX4_linesIn_14 rfl (lv_at hl 3 rfl) ?_
  refine lv_aload_n hx hb dX4_linesIn_15 rfl (lv_at hl 0 rfl) ?_
  refine m_geti (k := 26) S hR (by decide) (by decide) q2552 dX4_linesIn_16 ?_
  refine lv_icmp_ge (tgt := 46) hx hb dX4_linesIn_19 (by decide) (fun c_19 => ?_) (fun c_19 => ?_)
  · replace hf := o_t hf c_19
    exact hE46 _ (Option.some.inj hf).symm _ _ _ hR hS (lv_sub (l' := [(0, .ref (mo G)), (2, .int q.1)]) hl [0, 2] rfl)
  · replace hf := o_f hf c_19
    refine lv_iload_n hx hb dX4_linesIn_22 rfl (lv_at hl 2 rfl) ?_
    refine lv_aload_n hx hb dX4_linesIn_23 rfl (lv_at hl 0 rfl) ?_
    refine m_geta (k := 29) S hR (by decide) (by decide) q2555 dX4_linesIn_24 ?_
    refine lv_iload_n hx hb dX4_linesIn_27 rfl (lv_at hl 3 rfl) ?_
    refine k_bind hf (fun v2 hv2 hf => ?_)
    refine m_iald S hR hv2 dX4_linesIn_28 ?_
    refine lv_iload_n hx hb dX4_linesIn_29 rfl (lv_at hl 1 rfl) ?_
    refine lv_icmp_ne (tgt := 37) hx hb dX4_linesIn_30 (by decide) (fun c_30 => ?_) (fun c_30 => ?_)
    · replace hf := o_f hf c_30
      refine lv_iconst (v := 0) hx hb dX4_linesIn_37 (by decide) ?_
      refine lv_iadd hx hb dX4_linesIn_38 ?_
      refine k_bind hf (fun v3 hv3 hf => ?_)
      refine m_nmi hv3 ?_
      refine lv_istore_n (lv' := [(2, .int v3), (0, .ref (mo G)), (1, .int y1), (3, .int q.2)]) hx hb dX4_linesIn_39 rfl hl (by decide) rfl (fun ls hl => ?_)
      refine lv_iinc (lv' := [(3, .int (q.2 + (1 : Int32))), (2, .int v3), (0, .ref (mo G)), (1, .int y1)]) hx hb dX4_linesIn_40 hl (k := 3) rfl (m_inc (by decide)) (by decide) rfl (fun ls hl => ?_)
      refine lv_goto (tgt := 14) hx hb dX4_linesIn_43 (by decide) ?_
      exact hK _ (Option.some.inj hf).symm _ _ _ hR hS (lv_sub (l' := [(0, .ref (mo G)), (1, .int y1), (2, .int v3), (3, .int (q.2 + (1 : Int32)))]) hl [2, 3, 1, 0] rfl)
    · replace hf := o_t hf c_30
      refine lv_iconst (v := 1) hx hb dX4_linesIn_33 (by decide) ?_
      refine lv_goto (tgt := 38) hx hb dX4_linesIn_34 (by decide) ?_
      refine lv_iadd hx hb dX4_linesIn_38 ?_
      refine k_bind hf (fun v4 hv4 hf => ?_)
      refine m_nmi hv4 ?_
      refine lv_istore_n (lv' := [(2, .int v4), (0, .ref (mo G)), (1, .int y1), (3, .int q.2)]) hx hb dX4_linesIn_39 rfl hl (by decide) rfl (fun ls hl => ?_)
      refine lv_iinc (lv' := [(3, .int (q.2 + (1 : Int32))), (2, .int v4), (0, .ref (mo G)), (1, .int y1)]) hx hb dX4_linesIn_40 hl (k := 3) rfl (m_inc (by decide)) (by decide) rfl (fun ls hl => ?_)
      refine lv_goto (tgt := 14) hx hb dX4_linesIn_43 (by decide) ?_
      exact hK _ (Option.some.inj hf).symm _ _ _ hR hS (lv_sub (l' := [(0, .ref (mo G)), (1, .int y1), (2, .int v4), (3, .int (q.2 + (1 : Int32)))]) hl [2, 3, 1, 0] rfl)
set_option maxHeartbeats 4000000 in
set_option maxRecDepth 100000 in
theorem wLX4_linesIn_14 {l : Launch} {G : mG} {p : Program} {e : Env} {s : State} {m : MethodId} {args : Array Value} {below : List Frame} {meth : Method} {c : Code} {Q : State → Prop} {y1 : Int32} {σ : mS} {q : Int32 × Int32} {res : Int32} (S : mSt G p m c cX4_linesIn 4 s args meth (Option.some Jvm.ClassFile.FieldType.int)) (h : lpw (LX4_linesIn_14 y1 σ) q = some res) (hE46 : ∀ b, res = b → (∀ (H : Heap) (locs : List Loc) (ls : Array Slot), mR G σ H → va_S (mA G) s.heap H locs → lv_has ls 4 [(0, .ref (mo G)), (2, .int b)] → W p l e (mRm 0 0) s m args below meth c H locs 0 0 Q (F0 m 46 ls []))) : (∀ (H : Heap) (locs : List Loc) (ls : Array Slot), mR G σ H → va_S (mA G) s.heap H locs → lv_has ls 4 [(0, .ref (mo G)), (1, .int y1), (2, .int q.1), (3, .int q.2)] → W p l e (mRm 0 0) s m args below meth c H locs 0 0 Q (F0 m 14 ls [])) :=
  lpw_go _ (fun q => (∀ (H : Heap) (locs : List Loc) (ls : Array Slot), mR G σ H → va_S (mA G) s.heap H locs → lv_has ls 4 [(0, .ref (mo G)), (1, .int y1), (2, .int q.1), (3, .int q.2)] → W p l e (mRm 0 0) s m args below meth c H locs 0 0 Q (F0 m 14 ls []))) (fun b0 => (∀ b, b0 = b → (∀ (H : Heap) (locs : List Loc) (ls : Array Slot), mR G σ H → va_S (mA G) s.heap H locs → lv_has ls 4 [(0, .ref (mo G)), (2, .int b)] → W p l e (mRm 0 0) s m args below meth c H locs 0 0 Q (F0 m 46 ls [])))) (fun q x hf hK hX => wbLX4_linesIn_14 S hf hK (fun b eb => (hX _ eb) b rfl)) q res h hE46
set_option maxHeartbeats 4000000 in
set_option maxRecDepth 100000 in
theorem wJX4_linesIn_9 {l : Launch} {G : mG} {p : Program} {e : Env} {s : State} {m : MethodId} {args : Array Value} {below : List Frame} {meth : Method} {c : Code} {y1 : Int32} {z0 : Int32} {σ : mS} {res : Int32} (S : mSt G p m c cX4_linesIn 4 s args meth (Option.some Jvm.ClassFile.FieldType.int)) (hf : JX4_linesIn_9 y1 z0 σ = some res) : ∀ (H : Heap) (locs : List Loc) (ls : Array Slot), mR G σ H → va_S (mA G) s.heap H locs → lv_has ls 4 [(0, .ref (mo G)), (1, .int y1)] → W p l e (mRm 0 0) s m args below meth c H locs 0 0 (MQ below (mQ G (some (.int res)) σ) args s 0 0 (mA G)) (F0 m 9 ls [.int z0]) := by
  replace hf : ((some (y1 + (1 : Int32))).bind (fun v1 => (lpw (LX4_linesIn_14 y1 σ) (z0, v1)).bind (fun b5 => some b5))) = some res := hf
  obtain ⟨hx, hb, hml, hown, hts⟩ := S.1.1
  intro H locs ls hR hS hl
  refine lv_istore_n (lv' := [(2, .int z0), (0, .ref (mo G)), (1, .int y1)]) hx hb dX4_linesIn_9 rfl hl (by decide) rfl (fun ls hl => ?_)
  refine lv_iload_n hx hb dX4_linesIn_10 rfl (lv_at hl 2 rfl) ?_
  refine lv_iconst (v := 1) hx hb dX4_linesIn_11 (by decide) ?_
  refine lv_iadd hx hb dX4_linesIn_12 ?_
  refine k_bind hf (fun v1 hv1 hf => ?_)
  refine m_nmi hv1 ?_
  refine lv_istore_n (lv' := [(3, .int v1), (2, .int z0), (0, .ref (mo G)), (1, .int y1)]) hx hb dX4_linesIn_13 rfl hl (by decide) rfl (fun ls hl => ?_)
  refine k_bind hf (fun b5 hb5 hf => ?_)
  refine wLX4_linesIn_14 S hb5 ?_ _ _ _ hR hS (lv_sub (l' := [(0, .ref (mo G)), (1, .int y1), (2, .int z0), (3, .int v1)]) hl [2, 3, 1, 0] rfl)
  · intro b eb; subst eb; intro H locs ls hR hS hl
    refine lv_iload_n hx hb dX4_linesIn_46 rfl (lv_at hl 1 rfl) ?_
    obtain rfl := Option.some.inj hf
    exact m_iret S hR hS rfl dX4_linesIn_47
set_option maxHeartbeats 4000000 in
set_option maxRecDepth 100000 in
theorem met_X4_linesIn {l : Launch} {G : mG} {x1 : Int32} {σ : mS} {res : Int32} (hf : fX4_linesIn x1 σ = some res) : mMet l yX4_linesIn cX4_linesIn 4 (Option.some Jvm.ClassFile.FieldType.int) (mRm 0 0) G [.ref (mo G), .int x1] σ (some (.int res)) σ := by
  replace hf : (if x1 = (0 : Int32) then JX4_linesIn_9 x1 (0 : Int32) σ else JX4_linesIn_9 x1 (1 : Int32) σ) = some res := hf
  refine m_start (by decide) rfl (Nat.le_of_ble_eq_true rfl) ?_
  intro p e s m args below meth c S hR hS ls hl
  obtain ⟨hx, hb, hml, hown, hts⟩ := S.1.1
  have hl : lv_has ls 4 [(0, .ref (mo G)), (1, .int x1)] := hl
  refine lv_iload_n hx hb dX4_linesIn_0 rfl (lv_at hl 1 rfl) ?_
  refine lv_if_ne (tgt := 8) hx hb dX4_linesIn_1 (by decide) (fun c_1 => ?_) (fun c_1 => ?_)
  · replace hf := o_f hf c_1
    refine lv_iconst (v := 1) hx hb dX4_linesIn_8 (by decide) ?_
    exact wJX4_linesIn_9 S hf _ _ _ hR hS hl
  · replace hf := o_t hf c_1
    refine lv_iconst (v := 0) hx hb dX4_linesIn_4 (by decide) ?_
    refine lv_goto (tgt := 9) hx hb dX4_linesIn_5 (by decide) ?_
    exact wJX4_linesIn_9 S hf _ _ _ hR hS hl

noncomputable def fX4_costIn (x1 : Int32) (σ : mS) : Option Int32 :=
  (mald σ 27 x1).bind (fun v1 => (mald σ 28 x1).bind (fun v2 => (fX4_linesIn x1 σ).bind (fun v3 => some (fX4_cost v1 v2 v3 x1))))
theorem wi_X4_costIn : wInfV yX4_costIn cX4_costIn 2 (Option.some Jvm.ClassFile.FieldType.int) 1 := ⟨q3003, qs96, q116, q3004, (by decide +kernel), (by decide +kernel), (by decide +kernel)⟩
set_option maxHeartbeats 4000000 in
set_option maxRecDepth 100000 in
theorem met_X4_costIn {l : Launch} {G : mG} {x1 : Int32} {σ : mS} {res : Int32} (hf : fX4_costIn x1 σ = some res) : mMet l yX4_costIn cX4_costIn 2 (Option.some Jvm.ClassFile.FieldType.int) (mRm 1 24) G [.ref (mo G), .int x1] σ (some (.int res)) σ := by
  replace hf : ((mald σ 27 x1).bind (fun v1 => (mald σ 28 x1).bind (fun v2 => (fX4_linesIn x1 σ).bind (fun v3 => some (fX4_cost v1 v2 v3 x1))))) = some res := hf
  refine m_start (by decide) rfl (Nat.le_of_ble_eq_true rfl) ?_
  intro p e s m args below meth c S hR hS ls hl
  obtain ⟨hx, hb, hml, hown, hts⟩ := S.1.1
  have hl : lv_has ls 2 [(0, .ref (mo G)), (1, .int x1)] := hl
  refine lv_aload_n hx hb dX4_costIn_0 rfl (lv_at hl 0 rfl) ?_
  refine m_geta (k := 27) S hR (by decide) (by decide) q2553 dX4_costIn_1 ?_
  refine lv_iload_n hx hb dX4_costIn_4 rfl (lv_at hl 1 rfl) ?_
  refine k_bind hf (fun v1 hv1 hf => ?_)
  refine m_iald S hR hv1 dX4_costIn_5 ?_
  refine lv_aload_n hx hb dX4_costIn_6 rfl (lv_at hl 0 rfl) ?_
  refine m_geta (k := 28) S hR (by decide) (by decide) q2554 dX4_costIn_7 ?_
  refine lv_iload_n hx hb dX4_costIn_10 rfl (lv_at hl 1 rfl) ?_
  refine k_bind hf (fun v2 hv2 hf => ?_)
  refine m_iald S hR hv2 dX4_costIn_11 ?_
  refine lv_aload_n hx hb dX4_costIn_12 rfl (lv_at hl 0 rfl) ?_
  refine lv_iload_n hx hb dX4_costIn_13 rfl (lv_at hl 1 rfl) ?_
  refine k_bind hf (fun v3 hv3 hf => ?_)
  refine m_call (As := [.int x1]) (rest := [.int v2, .int v1]) S hR hS (met_X4_linesIn hv3) wi_X4_linesIn rfl q3005 ⟨rfl, rfl⟩ ⟨Nat.le_of_ble_eq_true rfl, Nat.le_of_ble_eq_true rfl⟩ rfl hl.1 rfl (Nat.le_of_ble_eq_true rfl) dX4_costIn_14 (fun H locs hR hS => ?_)
  refine lv_iload_n hx hb dX4_costIn_17 rfl (lv_at hl 1 rfl) ?_
  refine s_call (As := [.int v1, .int v2, .int v3, .int x1]) (rest := []) S.1.1 (met_X4_cost rfl) wi_X4_cost q2715 ⟨rfl, rfl⟩ ⟨Nat.le_of_ble_eq_true rfl, Nat.le_of_ble_eq_true rfl⟩ rfl hl.1 rfl (Nat.le_of_ble_eq_true rfl) dX4_costIn_18 ⟨Nat.zero_le _, Nat.zero_le _⟩ ?_
  obtain rfl := Option.some.inj hf
  exact m_iret S hR hS rfl dX4_costIn_21

noncomputable def JX4_counts_205 (y1 : Int32) (y2 : Int32) (y3 : Int32) (z0 : Int64) (z1 : Int64) (z2 : Int32) (z3 : Nat) (σ : mS) : Option ((Int32 × mS) ⊕ (mS)) :=
  (mlst σ z3 z2 (z1 + z0)).bind (fun σ17 => (mlld σ17 35 y2).bind (fun v18 => (mlld σ17 34 y3).bind (fun v19 => (mlst σ17 35 y2 (v18 + v19)).bind (fun σ20 => (mlld σ20 37 y2).bind (fun v21 => (mlld σ20 36 y3).bind (fun v22 => (mlst σ20 37 y2 (v21 * v22)).bind (fun σ23 => some (Sum.inl (y3 + (1 : Int32), σ23)))))))))
noncomputable def JX4_counts_165 (y1 : Int32) (y2 : Int32) (y3 : Int32) (z0 : Int64) (z1 : Int64) (z2 : Int32) (z3 : Nat) (σ : mS) : Option ((Int32 × mS) ⊕ (mS)) :=
  (mlst σ z3 z2 (z1 * z0)).bind (fun σ12 => (mlld σ12 34 y2).bind (fun v13 => (mlld σ12 34 y3).bind (fun v14 => (mlld σ12 35 y3).bind (fun v15 => if (0 : Int32) ≤ (lg_cmp v14 v15) then (mlld σ12 35 y3).bind (fun v16 => JX4_counts_205 y1 y2 y3 v16 v13 y2 34 σ12) else (mlld σ12 34 y3).bind (fun v24 => JX4_counts_205 y1 y2 y3 v24 v13 y2 34 σ12)))))
noncomputable def JX4_counts_104 (y1 : Int32) (y2 : Int32) (y3 : Int32) (z0 : Int32) (σ : mS) : Option ((Int32 × mS) ⊕ (mS)) :=
  (mlld σ 36 y2).bind (fun v8 => if z0 = (0 : Int32) then (mlld σ 34 y3).bind (fun v9 => (mlld σ 35 y3).bind (fun v10 => if (0 : Int32) ≤ (lg_cmp v9 v10) then (mlld σ 37 y3).bind (fun v11 => JX4_counts_165 y1 y2 y3 v11 v8 y2 36 σ) else (mlld σ 36 y3).bind (fun v25 => JX4_counts_165 y1 y2 y3 v25 v8 y2 36 σ))) else (mlld σ 36 y3).bind (fun v26 => (mlld σ 37 y3).bind (fun v27 => JX4_counts_165 y1 y2 y3 (v26 + v27) v8 y2 36 σ)))
noncomputable def LX4_counts_57 (y1 : Int32) (y2 : Int32) (q : Int32 × mS) : Option ((Int32 × mS) ⊕ (mS)) :=
  if (q.2.1 26) ≤ q.1 then some (Sum.inr q.2) else (mald q.2 29 q.1).bind (fun v7 => if v7 = y2 then if y1 = (2 : Int32) then JX4_counts_104 y1 y2 q.1 (1 : Int32) q.2 else (mlld q.2 34 q.1).bind (fun v28 => (mlld q.2 35 q.1).bind (fun v29 => if (lg_cmp v28 v29) = (0 : Int32) then JX4_counts_104 y1 y2 q.1 (1 : Int32) q.2 else JX4_counts_104 y1 y2 q.1 (0 : Int32) q.2)) else some (Sum.inl (q.1 + (1 : Int32), q.2)))
noncomputable def JX4_counts_31 (y1 : Int32) (y2 : Int32) (z0 : Int64) (z1 : Int32) (z2 : Nat) (σ : mS) : Option ((Int32 × mS) ⊕ (mS)) :=
  (mlst σ z2 z1 z0).bind (fun σ2 => (mlst σ2 35 y2 (0 : Int64)).bind (fun σ3 => (mlst σ3 36 y2 (1 : Int64)).bind (fun σ4 => (mlst σ4 37 y2 (1 : Int64)).bind (fun σ5 => (some (y2 + (1 : Int32))).bind (fun v6 => (lpw (LX4_counts_57 y1 y2) (v6, σ5)).bind (fun b30 => (some (y2 + (-1 : Int32))).bind (fun v31 => some (Sum.inl (v31, b30)))))))))
noncomputable def LX4_counts_7 (y1 : Int32) (q : Int32 × mS) : Option ((Int32 × mS) ⊕ (mS)) :=
  if q.1 < (0 : Int32) then some (Sum.inr q.2) else if y1 = (1 : Int32) then (fX4_costIn q.1 q.2).bind (fun v32 => JX4_counts_31 y1 q.1 v32.toInt64 q.1 34 q.2) else JX4_counts_31 y1 q.1 (1 : Int64) q.1 34 q.2
noncomputable def fX4_counts (x1 : Int32) (σ : mS) : Option mS :=
  (some ((σ.1 26) - (1 : Int32))).bind (fun v1 => (lpw (LX4_counts_7 x1) (v1, σ)).bind (fun b33 => some b33))
theorem wi_X4_counts : wInfV yX4_counts cX4_counts 5 (Option.none : Option Jvm.ClassFile.FieldType) 1 := ⟨q2999, qs95, q116, q3000, (by decide +kernel), (by decide +kernel), (by decide +kernel)⟩
set_option maxHeartbeats 4000000 in
set_option maxRecDepth 100000 in
theorem wJX4_counts_205 {l : Launch} {G : mG} {p : Program} {e : Env} {s : State} {m : MethodId} {args : Array Value} {below : List Frame} {meth : Method} {c : Code} {Q : State → Prop} {y1 : Int32} {y2 : Int32} {y3 : Int32} {z0 : Int64} {z1 : Int64} {z2 : Int32} {z3 : Nat} {σ : mS} {res : (Int32 × mS) ⊕ (mS)} (S : mSt G p m c cX4_counts 5 s args meth (Option.none : Option Jvm.ClassFile.FieldType)) (hf : JX4_counts_205 y1 y2 y3 z0 z1 z2 z3 σ = some res) (hK : ∀ q, res = Sum.inl q → (∀ (H : Heap) (locs : List Loc) (ls : Array Slot), mR G q.2 H → va_S (mA G) s.heap H locs → lv_has ls 5 [(0, .ref (mo G)), (1, .int y1), (2, .int y2), (3, .int q.1)] → W p l e (mRm 2 45) s m args below meth c H locs 0 0 Q (F0 m 57 ls []))) (hE243 : ∀ b, res = Sum.inr b → (∀ (H : Heap) (locs : List Loc) (ls : Array Slot), mR G b H → va_S (mA G) s.heap H locs → lv_has ls 5 [(0, .ref (mo G)), (1, .int y1), (2, .int y2)] → W p l e (mRm 2 45) s m args below meth c H locs 0 0 Q (F0 m 243 ls []))) : ∀ (H : Heap) (locs : List Loc) (ls : Array Slot), mR G σ H → va_S (mA G) s.heap H locs → lv_has ls 5 [(0, .ref (mo G)), (1, .int y1), (2, .int y2), (3, .int y3)] → W p l e (mRm 2 45) s m args below meth c H locs 0 0 Q (F0 m 205 ls [.long z0, .long z1, .int z2, .ref (mad G z3)]) := by
  replace hf : ((mlst σ z3 z2 (z1 + z0)).bind (fun σ17 => (mlld σ17 35 y2).bind (fun v18 => (mlld σ17 34 y3).bind (fun v19 => (mlst σ17 35 y2 (v18 + v19)).bind (fun σ20 => (mlld σ20 37 y2).bind (fun v21 => (mlld σ20 36 y3).bind (fun v22 => (mlst σ20 37 y2 (v21 * v22)).bind (fun σ23 => some (Sum.inl (y3 + (1 : Int32), σ23)))))))))) = some res := hf
  obtain ⟨hx, hb, hml, hown, hts⟩ := S.1.1
  intro H locs ls hR hS hl
  refine lv_ladd hx hb dX4_counts_205 ?_
  refine k_bind hf (fun σ17 hσ17 hf => ?_)
  refine m_last S hR hS hσ17 dX4_counts_206 (fun H locs hR hS => ?_)
  refine lv_aload_n hx hb dX4_counts_207 rfl (lv_at hl 0 rfl) ?_
  refine m_geta (k := 35) S hR (by decide) (by decide) q2561 dX4_counts_208 ?_
  refine lv_iload_n hx hb dX4_counts_211 rfl (lv_at hl 2 rfl) ?_
  refine lv_dup2_11 hx hb dX4_counts_212 rfl rfl ?_
  refine k_bind hf (fun v18 hv18 hf => ?_)
  refine m_lald S hR hv18 dX4_counts_213 ?_
  refine lv_aload_n hx hb dX4_counts_214 rfl (lv_at hl 0 rfl) ?_
  refine m_geta (k := 34) S hR (by decide) (by decide) q2560 dX4_counts_215 ?_
  refine lv_iload_n hx hb dX4_counts_218 rfl (lv_at hl 3 rfl) ?_
  refine k_bind hf (fun v19 hv19 hf => ?_)
  refine m_lald S hR hv19 dX4_counts_219 ?_
  refine lv_ladd hx hb dX4_counts_220 ?_
  refine k_bind hf (fun σ20 hσ20 hf => ?_)
  refine m_last S hR hS hσ20 dX4_counts_221 (fun H locs hR hS => ?_)
  refine lv_aload_n hx hb dX4_counts_222 rfl (lv_at hl 0 rfl) ?_
  refine m_geta (k := 37) S hR (by decide) (by decide) q2563 dX4_counts_223 ?_
  refine lv_iload_n hx hb dX4_counts_226 rfl (lv_at hl 2 rfl) ?_
  refine lv_dup2_11 hx hb dX4_counts_227 rfl rfl ?_
  refine k_bind hf (fun v21 hv21 hf => ?_)
  refine m_lald S hR hv21 dX4_counts_228 ?_
  refine lv_aload_n hx hb dX4_counts_229 rfl (lv_at hl 0 rfl) ?_
  refine m_geta (k := 36) S hR (by decide) (by decide) q2562 dX4_counts_230 ?_
  refine lv_iload_n hx hb dX4_counts_233 rfl (lv_at hl 3 rfl) ?_
  refine k_bind hf (fun v22 hv22 hf => ?_)
  refine m_lald S hR hv22 dX4_counts_234 ?_
  refine lv_lmul hx hb dX4_counts_235 ?_
  refine k_bind hf (fun σ23 hσ23 hf => ?_)
  refine m_last S hR hS hσ23 dX4_counts_236 (fun H locs hR hS => ?_)
  refine lv_iinc (lv' := [(3, .int (y3 + (1 : Int32))), (0, .ref (mo G)), (1, .int y1), (2, .int y2)]) hx hb dX4_counts_237 hl (k := 3) rfl (m_inc (by decide)) (by decide) rfl (fun ls hl => ?_)
  refine lv_goto (tgt := 57) hx hb dX4_counts_240 (by decide) ?_
  exact hK _ (Option.some.inj hf).symm _ _ _ hR hS (lv_sub (l' := [(0, .ref (mo G)), (1, .int y1), (2, .int y2), (3, .int (y3 + (1 : Int32)))]) hl [1, 2, 3, 0] rfl)
set_option maxHeartbeats 4000000 in
set_option maxRecDepth 100000 in
theorem wJX4_counts_165 {l : Launch} {G : mG} {p : Program} {e : Env} {s : State} {m : MethodId} {args : Array Value} {below : List Frame} {meth : Method} {c : Code} {Q : State → Prop} {y1 : Int32} {y2 : Int32} {y3 : Int32} {z0 : Int64} {z1 : Int64} {z2 : Int32} {z3 : Nat} {σ : mS} {res : (Int32 × mS) ⊕ (mS)} (S : mSt G p m c cX4_counts 5 s args meth (Option.none : Option Jvm.ClassFile.FieldType)) (hf : JX4_counts_165 y1 y2 y3 z0 z1 z2 z3 σ = some res) (hK : ∀ q, res = Sum.inl q → (∀ (H : Heap) (locs : List Loc) (ls : Array Slot), mR G q.2 H → va_S (mA G) s.heap H locs → lv_has ls 5 [(0, .ref (mo G)), (1, .int y1), (2, .int y2), (3, .int q.1)] → W p l e (mRm 2 45) s m args below meth c H locs 0 0 Q (F0 m 57 ls []))) (hE243 : ∀ b, res = Sum.inr b → (∀ (H : Heap) (locs : List Loc) (ls : Array Slot), mR G b H → va_S (mA G) s.heap H locs → lv_has ls 5 [(0, .ref (mo G)), (1, .int y1), (2, .int y2)] → W p l e (mRm 2 45) s m args below meth c H locs 0 0 Q (F0 m 243 ls []))) : ∀ (H : Heap) (locs : List Loc) (ls : Array Slot), mR G σ H → va_S (mA G) s.heap H locs → lv_has ls 5 [(0, .ref (mo G)), (1, .int y1), (2, .int y2), (3, .int y3)] → W p l e (mRm 2 45) s m args below meth c H locs 0 0 Q (F0 m 165 ls [.long z0, .long z1, .int z2, .ref (mad G z3)]) := by
  replace hf : ((mlst σ z3 z2 (z1 * z0)).bind (fun σ12 => (mlld σ12 34 y2).bind (fun v13 => (mlld σ12 34 y3).bind (fun v14 => (mlld σ12 35 y3).bind (fun v15 => if (0 : Int32) ≤ (lg_cmp v14 v15) then (mlld σ12 35 y3).bind (fun v16 => JX4_counts_205 y1 y2 y3 v16 v13 y2 34 σ12) else (mlld σ12 34 y3).bind (fun v24 => JX4_counts_205 y1 y2 y3 v24 v13 y2 34 σ12)))))) = some res := hf
  obtain ⟨hx, hb, hml, hown, hts⟩ := S.1.1
  intro H locs ls hR hS hl
  refine lv_lmul hx hb dX4_counts_165 ?_
  refine k_bind hf (fun σ12 hσ12 hf => ?_)
  refine m_last S hR hS hσ12 dX4_counts_166 (fun H locs hR hS => ?_)
  refine lv_aload_n hx hb dX4_counts_167 rfl (lv_at hl 0 rfl) ?_
  refine m_geta (k := 34) S hR (by decide) (by decide) q2560 dX4_counts_168 ?_
  refine lv_iload_n hx hb dX4_counts_171 rfl (lv_at hl 2 rfl) ?_
  refine lv_dup2_11 hx hb dX4_counts_172 rfl rfl ?_
  refine k_bind hf (fun v13 hv13 hf => ?_)
  refine m_lald S hR hv13 dX4_counts_173 ?_
  refine lv_aload_n hx hb dX4_counts_174 rfl (lv_at hl 0 rfl) ?_
  refine m_geta (k := 34) S hR (by decide) (by decide) q2560 dX4_counts_175 ?_
  refine lv_iload_n hx hb dX4_counts_178 rfl (lv_at hl 3 rfl) ?_
  refine k_bind hf (fun v14 hv14 hf => ?_)
  refine m_lald S hR hv14 dX4_counts_179 ?_
  refine lv_aload_n hx hb dX4_counts_180 rfl (lv_at hl 0 rfl) ?_
  refine m_geta (k := 35) S hR (by decide) (by decide) q2561 dX4_counts_181 ?_
  refine lv_iload_n hx hb dX4_counts_184 rfl (lv_at hl 3 rfl) ?_
  refine k_bind hf (fun v15 hv15 hf => ?_)
  refine m_lald S hR hv15 dX4_counts_185 ?_
  refine W.lcmp hx hb dX4_counts_186 ?_
  refine lv_if_ge (tgt := 199) hx hb dX4_counts_187 (by decide) (fun c_187 => ?_) (fun c_187 => ?_)
  · replace hf := o_t hf c_187
    refine lv_aload_n hx hb dX4_counts_199 rfl (lv_at hl 0 rfl) ?_
    refine m_geta (k := 35) S hR (by decide) (by decide) q2561 dX4_counts_200 ?_
    refine lv_iload_n hx hb dX4_counts_203 rfl (lv_at hl 3 rfl) ?_
    refine k_bind hf (fun v16 hv16 hf => ?_)
    refine m_lald S hR hv16 dX4_counts_204 ?_
    exact wJX4_counts_205 S hf hK hE243 _ _ _ hR hS hl
  · replace hf := o_f hf c_187
    refine lv_aload_n hx hb dX4_counts_190 rfl (lv_at hl 0 rfl) ?_
    refine m_geta (k := 34) S hR (by decide) (by decide) q2560 dX4_counts_191 ?_
    refine lv_iload_n hx hb dX4_counts_194 rfl (lv_at hl 3 rfl) ?_
    refine k_bind hf (fun v24 hv24 hf => ?_)
    refine m_lald S hR hv24 dX4_counts_195 ?_
    refine lv_goto (tgt := 205) hx hb dX4_counts_196 (by decide) ?_
    exact wJX4_counts_205 S hf hK hE243 _ _ _ hR hS hl
set_option maxHeartbeats 4000000 in
set_option maxRecDepth 100000 in
theorem wJX4_counts_104 {l : Launch} {G : mG} {p : Program} {e : Env} {s : State} {m : MethodId} {args : Array Value} {below : List Frame} {meth : Method} {c : Code} {Q : State → Prop} {y1 : Int32} {y2 : Int32} {y3 : Int32} {z0 : Int32} {σ : mS} {res : (Int32 × mS) ⊕ (mS)} (S : mSt G p m c cX4_counts 5 s args meth (Option.none : Option Jvm.ClassFile.FieldType)) (hf : JX4_counts_104 y1 y2 y3 z0 σ = some res) (hK : ∀ q, res = Sum.inl q → (∀ (H : Heap) (locs : List Loc) (ls : Array Slot), mR G q.2 H → va_S (mA G) s.heap H locs → lv_has ls 5 [(0, .ref (mo G)), (1, .int y1), (2, .int y2), (3, .int q.1)] → W p l e (mRm 2 45) s m args below meth c H locs 0 0 Q (F0 m 57 ls []))) (hE243 : ∀ b, res = Sum.inr b → (∀ (H : Heap) (locs : List Loc) (ls : Array Slot), mR G b H → va_S (mA G) s.heap H locs → lv_has ls 5 [(0, .ref (mo G)), (1, .int y1), (2, .int y2)] → W p l e (mRm 2 45) s m args below meth c H locs 0 0 Q (F0 m 243 ls []))) : ∀ (H : Heap) (locs : List Loc) (ls : Array Slot), mR G σ H → va_S (mA G) s.heap H locs → lv_has ls 5 [(0, .ref (mo G)), (1, .int y1), (2, .int y2), (3, .int y3)] → W p l e (mRm 2 45) s m args below meth c H locs 0 0 Q (F0 m 104 ls [.int z0]) := by
  replace hf : ((mlld σ 36 y2).bind (fun v8 => if z0 = (0 : Int32) then (mlld σ 34 y3).bind (fun v9 => (mlld σ 35 y3).bind (fun v10 => if (0 : Int32) ≤ (lg_cmp v9 v10) then (mlld σ 37 y3).bind (fun v11 => JX4_counts_165 y1 y2 y3 v11 v8 y2 36 σ) else (mlld σ 36 y3).bind (fun v25 => JX4_counts_165 y1 y2 y3 v25 v8 y2 36 σ))) else (mlld σ 36 y3).bind (fun v26 => (mlld σ 37 y3).bind (fun v27 => JX4_counts_165 y1 y2 y3 (v26 + v27) v8 y2 36 σ)))) = some res := hf
  obtain ⟨hx, hb, hml, hown, hts⟩ := S.1.1
  intro H locs ls hR hS hl
  refine lv_istore (lv' := [(4, .int z0), (0, .ref (mo G)), (1, .int y1), (2, .int y2), (3, .int y3)]) hx hb dX4_counts_104 hl (by decide) rfl (fun ls hl => ?_)
  refine lv_aload_n hx hb dX4_counts_106 rfl (lv_at hl 1 rfl) ?_
  refine m_geta (k := 36) S hR (by decide) (by decide) q2562 dX4_counts_107 ?_
  refine lv_iload_n hx hb dX4_counts_110 rfl (lv_at hl 3 rfl) ?_
  refine lv_dup2_11 hx hb dX4_counts_111 rfl rfl ?_
  refine k_bind hf (fun v8 hv8 hf => ?_)
  refine m_lald S hR hv8 dX4_counts_112 ?_
  refine lv_iload hx hb dX4_counts_113 (lv_at hl 0 rfl) ?_
  refine lv_if_eq (tgt := 134) hx hb dX4_counts_115 (by decide) (fun c_115 => ?_) (fun c_115 => ?_)
  · replace hf := o_t hf c_115
    refine lv_aload_n hx hb dX4_counts_134 rfl (lv_at hl 1 rfl) ?_
    refine m_geta (k := 34) S hR (by decide) (by decide) q2560 dX4_counts_135 ?_
    refine lv_iload_n hx hb dX4_counts_138 rfl (lv_at hl 4 rfl) ?_
    refine k_bind hf (fun v9 hv9 hf => ?_)
    refine m_lald S hR hv9 dX4_counts_139 ?_
    refine lv_aload_n hx hb dX4_counts_140 rfl (lv_at hl 1 rfl) ?_
    refine m_geta (k := 35) S hR (by decide) (by decide) q2561 dX4_counts_141 ?_
    refine lv_iload_n hx hb dX4_counts_144 rfl (lv_at hl 4 rfl) ?_
    refine k_bind hf (fun v10 hv10 hf => ?_)
    refine m_lald S hR hv10 dX4_counts_145 ?_
    refine W.lcmp hx hb dX4_counts_146 ?_
    refine lv_if_ge (tgt := 159) hx hb dX4_counts_147 (by decide) (fun c_147 => ?_) (fun c_147 => ?_)
    · replace hf := o_t hf c_147
      refine lv_aload_n hx hb dX4_counts_159 rfl (lv_at hl 1 rfl) ?_
      refine m_geta (k := 37) S hR (by decide) (by decide) q2563 dX4_counts_160 ?_
      refine lv_iload_n hx hb dX4_counts_163 rfl (lv_at hl 4 rfl) ?_
      refine k_bind hf (fun v11 hv11 hf => ?_)
      refine m_lald S hR hv11 dX4_counts_164 ?_
      exact wJX4_counts_165 S hf hK hE243 _ _ _ hR hS (lv_sub (l' := [(0, .ref (mo G)), (1, .int y1), (2, .int y2), (3, .int y3)]) hl [1, 2, 3, 4] rfl)
    · replace hf := o_f hf c_147
      refine lv_aload_n hx hb dX4_counts_150 rfl (lv_at hl 1 rfl) ?_
      refine m_geta (k := 36) S hR (by decide) (by decide) q2562 dX4_counts_151 ?_
      refine lv_iload_n hx hb dX4_counts_154 rfl (lv_at hl 4 rfl) ?_
      refine k_bind hf (fun v25 hv25 hf => ?_)
      refine m_lald S hR hv25 dX4_counts_155 ?_
      refine lv_goto (tgt := 165) hx hb dX4_counts_156 (by decide) ?_
      exact wJX4_counts_165 S hf hK hE243 _ _ _ hR hS (lv_sub (l' := [(0, .ref (mo G)), (1, .int y1), (2, .int y2), (3, .int y3)]) hl [1, 2, 3, 4] rfl)
  · replace hf := o_f hf c_115
    refine lv_aload_n hx hb dX4_counts_118 rfl (lv_at hl 1 rfl) ?_
    refine m_geta (k := 36) S hR (by decide) (by decide) q2562 dX4_counts_119 ?_
    refine lv_iload_n hx hb dX4_counts_122 rfl (lv_at hl 4 rfl) ?_
    refine k_bind hf (fun v26 hv26 hf => ?_)
    refine m_lald S hR hv26 dX4_counts_123 ?_
    refine lv_aload_n hx hb dX4_counts_124 rfl (lv_at hl 1 rfl) ?_
    refine m_geta (k := 37) S hR (by decide) (by decide) q2563 dX4_counts_125 ?_
    refine lv_iload_n hx hb dX4_counts_128 rfl (lv_at hl 4 rfl) ?_
    refine k_bind hf (fun v27 hv27 hf => ?_)
    refine m_lald S hR hv27 dX4_counts_129 ?_
    refine lv_ladd hx hb dX4_counts_130 ?_
    refine lv_goto (tgt := 165) hx hb dX4_counts_131 (by decide) ?_
    exact wJX4_counts_165 S hf hK hE243 _ _ _ hR hS (lv_sub (l' := [(0, .ref (mo G)), (1, .int y1), (2, .int y2), (3, .int y3)]) hl [1, 2, 3, 4] rfl)
set_option maxHeartbeats 4000000 in
set_option maxRecDepth 100000 in
theorem wbLX4_counts_57 {l : Launch} {G : mG} {p : Program} {e : Env} {s : State} {m : MethodId} {args : Array Value} {below : List Frame} {meth : Method} {c : Code} {Q : State → Prop} {y1 : Int32} {y2 : Int32} {q : Int32 × mS} {res : (Int32 × mS) ⊕ (mS)} (S : mSt G p m c cX4_counts 5 s args meth (Option.none : Option Jvm.ClassFile.FieldType)) (hf : LX4_counts_57 y1 y2 q = some res) (hK : ∀ q, res = Sum.inl q → (∀ (H : Heap) (locs : List Loc) (ls : Array Slot), mR G q.2 H → va_S (mA G) s.heap H locs → lv_has ls 5 [(0, .ref (mo G)), (1, .int y1), (2, .int y2), (3, .int q.1)] → W p l e (mRm 2 45) s m args below meth c H locs 0 0 Q (F0 m 57 ls []))) (hE243 : ∀ b, res = Sum.inr b → (∀ (H : Heap) (locs : List Loc) (ls : Array Slot), mR G b H → va_S (mA G) s.heap H locs → lv_has ls 5 [(0, .ref (mo G)), (1, .int y1), (2, .int y2)] → W p l e (mRm 2 45) s m args below meth c H locs 0 0 Q (F0 m 243 ls []))) : (∀ (H : Heap) (locs : List Loc) (ls : Array Slot), mR G q.2 H → va_S (mA G) s.heap H locs → lv_has ls 5 [(0, .ref (mo G)), (1, .int y1), (2, .int y2), (3, .int q.1)] → W p l e (mRm 2 45) s m args below meth c H locs 0 0 Q (F0 m 57 ls [])) := by
  replace hf : (if (q.2.1 26) ≤ q.1 then some (Sum.inr q.2) else (mald q.2 29 q.1).bind (fun v7 => if v7 = y2 then if y1 = (2 : Int32) then JX4_counts_104 y1 y2 q.1 (1 : Int32) q.2 else (mlld q.2 34 q.1).bind (fun v28 => (mlld q.2 35 q.1).bind (fun v29 => if (lg_cmp v28 v29) = (0 : Int32) then JX4_counts_104 y1 y2 q.1 (1 : Int32) q.2 else JX4_counts_104 y1 y2 q.1 (0 : Int32) q.2)) else some (Sum.inl (q.1 + (1 : Int32), q.2)))) = some res := hf
  obtain ⟨hx, hb, hml, hown, hts⟩ := S.1.1
  intro H locs ls hR hS hl
  refine lv_iload_n hx hb dX4_counts_57 rfl (lv_at hl 3 rfl) ?_
  refine lv_aload_n hx hb dX4_counts_58 rfl (lv_at hl 0 rfl) ?_
  refine m_geti (k := 26) S hR (by decide) (by decide) q2552 dX4_counts_59 ?_
  refine lv_icmp_ge (tgt := 243) hx hb dX4_counts_62 (by decide) (fun c_62 => ?_) (fun c_62 => ?_)
  · replace hf := o_t hf c_62
    exact hE243 _ (Option.some.inj hf).symm _ _ _ hR hS (lv_sub (l' := [(0, .ref (mo G)), (1, .int y1), (2, .int y2)]) hl [0, 1, 2] rfl)
  · replace hf := o_f hf c_62
    refine lv_aload_n hx hb dX4_counts_65 rfl (lv_at hl 0 rfl) ?_
    refine m_geta (k := 29) S hR (by decide) (by decide) q2555 dX4_counts_66 ?_
    refine lv_iload_n hx hb dX4_counts_69 rfl (lv_at hl 3 rfl) ?_
    refine k_bind hf (fun v7 hv7 hf => ?_)
    refine m_iald S hR hv7 dX4_counts_70 ?_
    refine lv_iload_n hx hb dX4_counts_71 rfl (lv_at hl 2 rfl) ?_
    refine lv_icmp_eq (tgt := 78) hx hb dX4_counts_72 (by decide) (fun c_72 => ?_) (fun c_72 => ?_)
    · replace hf := o_t hf c_72
      refine lv_iload_n hx hb dX4_counts_78 rfl (lv_at hl 1 rfl) ?_
      refine lv_iconst (v := 2) hx hb dX4_counts_79 (by decide) ?_
      refine lv_icmp_eq (tgt := 99) hx hb dX4_counts_80 (by decide) (fun c_80 => ?_) (fun c_80 => ?_)
      · replace hf := o_t hf c_80
        refine lv_iconst (v := 1) hx hb dX4_counts_99 (by decide) ?_
        refine lv_goto (tgt := 104) hx hb dX4_counts_100 (by decide) ?_
        exact wJX4_counts_104 S hf hK hE243 _ _ _ hR hS hl
      · replace hf := o_f hf c_80
        refine lv_aload_n hx hb dX4_counts_83 rfl (lv_at hl 0 rfl) ?_
        refine m_geta (k := 34) S hR (by decide) (by decide) q2560 dX4_counts_84 ?_
        refine lv_iload_n hx hb dX4_counts_87 rfl (lv_at hl 3 rfl) ?_
        refine k_bind hf (fun v28 hv28 hf => ?_)
        refine m_lald S hR hv28 dX4_counts_88 ?_
        refine lv_aload_n hx hb dX4_counts_89 rfl (lv_at hl 0 rfl) ?_
        refine m_geta (k := 35) S hR (by decide) (by decide) q2561 dX4_counts_90 ?_
        refine lv_iload_n hx hb dX4_counts_93 rfl (lv_at hl 3 rfl) ?_
        refine k_bind hf (fun v29 hv29 hf => ?_)
        refine m_lald S hR hv29 dX4_counts_94 ?_
        refine W.lcmp hx hb dX4_counts_95 ?_
        refine lv_if_ne (tgt := 103) hx hb dX4_counts_96 (by decide) (fun c_96 => ?_) (fun c_96 => ?_)
        · replace hf := o_f hf c_96
          refine lv_iconst (v := 0) hx hb dX4_counts_103 (by decide) ?_
          exact wJX4_counts_104 S hf hK hE243 _ _ _ hR hS hl
        · replace hf := o_t hf c_96
          refine lv_iconst (v := 1) hx hb dX4_counts_99 (by decide) ?_
          refine lv_goto (tgt := 104) hx hb dX4_counts_100 (by decide) ?_
          exact wJX4_counts_104 S hf hK hE243 _ _ _ hR hS hl
    · replace hf := o_f hf c_72
      refine lv_goto (tgt := 237) hx hb dX4_counts_75 (by decide) ?_
      refine lv_iinc (lv' := [(3, .int (q.1 + (1 : Int32))), (0, .ref (mo G)), (1, .int y1), (2, .int y2)]) hx hb dX4_counts_237 hl (k := 3) rfl (m_inc (by decide)) (by decide) rfl (fun ls hl => ?_)
      refine lv_goto (tgt := 57) hx hb dX4_counts_240 (by decide) ?_
      exact hK _ (Option.some.inj hf).symm _ _ _ hR hS (lv_sub (l' := [(0, .ref (mo G)), (1, .int y1), (2, .int y2), (3, .int (q.1 + (1 : Int32)))]) hl [1, 2, 3, 0] rfl)
set_option maxHeartbeats 4000000 in
set_option maxRecDepth 100000 in
theorem wLX4_counts_57 {l : Launch} {G : mG} {p : Program} {e : Env} {s : State} {m : MethodId} {args : Array Value} {below : List Frame} {meth : Method} {c : Code} {Q : State → Prop} {y1 : Int32} {y2 : Int32} {q : Int32 × mS} {res : mS} (S : mSt G p m c cX4_counts 5 s args meth (Option.none : Option Jvm.ClassFile.FieldType)) (h : lpw (LX4_counts_57 y1 y2) q = some res) (hE243 : ∀ b, res = b → (∀ (H : Heap) (locs : List Loc) (ls : Array Slot), mR G b H → va_S (mA G) s.heap H locs → lv_has ls 5 [(0, .ref (mo G)), (1, .int y1), (2, .int y2)] → W p l e (mRm 2 45) s m args below meth c H locs 0 0 Q (F0 m 243 ls []))) : (∀ (H : Heap) (locs : List Loc) (ls : Array Slot), mR G q.2 H → va_S (mA G) s.heap H locs → lv_has ls 5 [(0, .ref (mo G)), (1, .int y1), (2, .int y2), (3, .int q.1)] → W p l e (mRm 2 45) s m args below meth c H locs 0 0 Q (F0 m 57 ls [])) :=
  lpw_go _ (fun q => (∀ (H : Heap) (locs : List Loc) (ls : Array Slot), mR G q.2 H → va_S (mA G) s.heap H locs → lv_has ls 5 [(0, .ref (mo G)), (1, .int y1), (2, .int y2), (3, .int q.1)] → W p l e (mRm 2 45) s m args below meth c H locs 0 0 Q (F0 m 57 ls []))) (fun b0 => (∀ b, b0 = b → (∀ (H : Heap) (locs : List Loc) (ls : Array Slot), mR G b H → va_S (mA G) s.heap H locs → lv_has ls 5 [(0, .ref (mo G)), (1, .int y1), (2, .int y2)] → W p l e (mRm 2 45) s m args below meth c H locs 0 0 Q (F0 m 243 ls [])))) (fun q x hf hK hX => wbLX4_counts_57 S hf hK (fun b eb => (hX _ eb) b rfl)) q res h hE243
set_option maxHeartbeats 4000000 in
set_option maxRecDepth 100000 in
theorem wJX4_counts_31 {l : Launch} {G : mG} {p : Program} {e : Env} {s : State} {m : MethodId} {args : Array Value} {below : List Frame} {meth : Method} {c : Code} {Q : State → Prop} {y1 : Int32} {y2 : Int32} {z0 : Int64} {z1 : Int32} {z2 : Nat} {σ : mS} {res : (Int32 × mS) ⊕ (mS)} (S : mSt G p m c cX4_counts 5 s args meth (Option.none : Option Jvm.ClassFile.FieldType)) (hf : JX4_counts_31 y1 y2 z0 z1 z2 σ = some res) (hK : ∀ q, res = Sum.inl q → (∀ (H : Heap) (locs : List Loc) (ls : Array Slot), mR G q.2 H → va_S (mA G) s.heap H locs → lv_has ls 5 [(0, .ref (mo G)), (1, .int y1), (2, .int q.1)] → W p l e (mRm 2 45) s m args below meth c H locs 0 0 Q (F0 m 7 ls []))) (hE249 : ∀ b, res = Sum.inr b → (∀ (H : Heap) (locs : List Loc) (ls : Array Slot), mR G b H → va_S (mA G) s.heap H locs → lv_has ls 5 [(0, .ref (mo G))] → W p l e (mRm 2 45) s m args below meth c H locs 0 0 Q (F0 m 249 ls []))) : ∀ (H : Heap) (locs : List Loc) (ls : Array Slot), mR G σ H → va_S (mA G) s.heap H locs → lv_has ls 5 [(0, .ref (mo G)), (1, .int y1), (2, .int y2)] → W p l e (mRm 2 45) s m args below meth c H locs 0 0 Q (F0 m 31 ls [.long z0, .int z1, .ref (mad G z2)]) := by
  replace hf : ((mlst σ z2 z1 z0).bind (fun σ2 => (mlst σ2 35 y2 (0 : Int64)).bind (fun σ3 => (mlst σ3 36 y2 (1 : Int64)).bind (fun σ4 => (mlst σ4 37 y2 (1 : Int64)).bind (fun σ5 => (some (y2 + (1 : Int32))).bind (fun v6 => (lpw (LX4_counts_57 y1 y2) (v6, σ5)).bind (fun b30 => (some (y2 + (-1 : Int32))).bind (fun v31 => some (Sum.inl (v31, b30)))))))))) = some res := hf
  obtain ⟨hx, hb, hml, hown, hts⟩ := S.1.1
  intro H locs ls hR hS hl
  refine k_bind hf (fun σ2 hσ2 hf => ?_)
  refine m_last S hR hS hσ2 dX4_counts_31 (fun H locs hR hS => ?_)
  refine lv_aload_n hx hb dX4_counts_32 rfl (lv_at hl 0 rfl) ?_
  refine m_geta (k := 35) S hR (by decide) (by decide) q2561 dX4_counts_33 ?_
  refine lv_iload_n hx hb dX4_counts_36 rfl (lv_at hl 2 rfl) ?_
  refine lv_lconst (v := 0) hx hb dX4_counts_37 (by decide) ?_
  refine k_bind hf (fun σ3 hσ3 hf => ?_)
  refine m_last S hR hS hσ3 dX4_counts_38 (fun H locs hR hS => ?_)
  refine lv_aload_n hx hb dX4_counts_39 rfl (lv_at hl 0 rfl) ?_
  refine m_geta (k := 36) S hR (by decide) (by decide) q2562 dX4_counts_40 ?_
  refine lv_iload_n hx hb dX4_counts_43 rfl (lv_at hl 2 rfl) ?_
  refine lv_lconst (v := 1) hx hb dX4_counts_44 (by decide) ?_
  refine k_bind hf (fun σ4 hσ4 hf => ?_)
  refine m_last S hR hS hσ4 dX4_counts_45 (fun H locs hR hS => ?_)
  refine lv_aload_n hx hb dX4_counts_46 rfl (lv_at hl 0 rfl) ?_
  refine m_geta (k := 37) S hR (by decide) (by decide) q2563 dX4_counts_47 ?_
  refine lv_iload_n hx hb dX4_counts_50 rfl (lv_at hl 2 rfl) ?_
  refine lv_lconst (v := 1) hx hb dX4_counts_51 (by decide) ?_
  refine k_bind hf (fun σ5 hσ5 hf => ?_)
  refine m_last S hR hS hσ5 dX4_counts_52 (fun H locs hR hS => ?_)
  refine lv_iload_n hx hb dX4_counts_53 rfl (lv_at hl 2 rfl) ?_
  refine lv_iconst (v := 1) hx hb dX4_counts_54 (by decide) ?_
  refine lv_iadd hx hb dX4_counts_55 ?_
  refine k_bind hf (fun v6 hv6 hf => ?_)
  refine m_nmi hv6 ?_
  refine lv_istore_n (lv' := [(3, .int v6), (0, .ref (mo G)), (1, .int y1), (2, .int y2)]) hx hb dX4_counts_56 rfl hl (by decide) rfl (fun ls hl => ?_)
  refine k_bind hf (fun b30 hb30 hf => ?_)
  refine wLX4_counts_57 S hb30 ?_ _ _ _ hR hS (lv_sub (l' := [(0, .ref (mo G)), (1, .int y1), (2, .int y2), (3, .int v6)]) hl [1, 2, 3, 0] rfl)
  · intro b eb; subst eb; intro H locs ls hR hS hl
    refine k_bind hf (fun v31 hv31 hf => ?_)
    refine lv_iinc (lv' := [(2, .int v31), (0, .ref (mo G)), (1, .int y1)]) hx hb dX4_counts_243 hl (k := 2) rfl ((m_inc (by decide)).trans (Option.some.inj hv31)) (by decide) rfl (fun ls hl => ?_)
    refine lv_goto (tgt := 7) hx hb dX4_counts_246 (by decide) ?_
    exact hK _ (Option.some.inj hf).symm _ _ _ hR hS (lv_sub (l' := [(0, .ref (mo G)), (1, .int y1), (2, .int v31)]) hl [1, 2, 0] rfl)
set_option maxHeartbeats 4000000 in
set_option maxRecDepth 100000 in
theorem wbLX4_counts_7 {l : Launch} {G : mG} {p : Program} {e : Env} {s : State} {m : MethodId} {args : Array Value} {below : List Frame} {meth : Method} {c : Code} {Q : State → Prop} {y1 : Int32} {q : Int32 × mS} {res : (Int32 × mS) ⊕ (mS)} (S : mSt G p m c cX4_counts 5 s args meth (Option.none : Option Jvm.ClassFile.FieldType)) (hf : LX4_counts_7 y1 q = some res) (hK : ∀ q, res = Sum.inl q → (∀ (H : Heap) (locs : List Loc) (ls : Array Slot), mR G q.2 H → va_S (mA G) s.heap H locs → lv_has ls 5 [(0, .ref (mo G)), (1, .int y1), (2, .int q.1)] → W p l e (mRm 2 45) s m args below meth c H locs 0 0 Q (F0 m 7 ls []))) (hE249 : ∀ b, res = Sum.inr b → (∀ (H : Heap) (locs : List Loc) (ls : Array Slot), mR G b H → va_S (mA G) s.heap H locs → lv_has ls 5 [(0, .ref (mo G))] → W p l e (mRm 2 45) s m args below meth c H locs 0 0 Q (F0 m 249 ls []))) : (∀ (H : Heap) (locs : List Loc) (ls : Array Slot), mR G q.2 H → va_S (mA G) s.heap H locs → lv_has ls 5 [(0, .ref (mo G)), (1, .int y1), (2, .int q.1)] → W p l e (mRm 2 45) s m args below meth c H locs 0 0 Q (F0 m 7 ls [])) := by
  replace hf : (if q.1 < (0 : Int32) then some (Sum.inr q.2) else if y1 = (1 : Int32) then (fX4_costIn q.1 q.2).bind (fun v32 => JX4_counts_31 y1 q.1 v32.toInt64 q.1 34 q.2) else JX4_counts_31 y1 q.1 (1 : Int64) q.1 34 q.2) = some res := hf
  obtain ⟨hx, hb, hml, hown, hts⟩ := S.1.1
  intro H locs ls hR hS hl
  refine lv_iload_n hx hb dX4_counts_7 rfl (lv_at hl 2 rfl) ?_
  refine lv_if_lt (tgt := 249) hx hb dX4_counts_8 (by decide) (fun c_8 => ?_) (fun c_8 => ?_)
  · replace hf := o_t hf c_8
    exact hE249 _ (Option.some.inj hf).symm _ _ _ hR hS (lv_sub (l' := [(0, .ref (mo G))]) hl [0] rfl)
  · replace hf := o_f hf c_8
    refine lv_aload_n hx hb dX4_counts_11 rfl (lv_at hl 0 rfl) ?_
    refine m_geta (k := 34) S hR (by decide) (by decide) q2560 dX4_counts_12 ?_
    refine lv_iload_n hx hb dX4_counts_15 rfl (lv_at hl 2 rfl) ?_
    refine lv_iload_n hx hb dX4_counts_16 rfl (lv_at hl 1 rfl) ?_
    refine lv_iconst (v := 1) hx hb dX4_counts_17 (by decide) ?_
    refine lv_icmp_ne (tgt := 30) hx hb dX4_counts_18 (by decide) (fun c_18 => ?_) (fun c_18 => ?_)
    · replace hf := o_f hf c_18
      refine lv_lconst (v := 1) hx hb dX4_counts_30 (by decide) ?_
      exact wJX4_counts_31 S hf hK hE249 _ _ _ hR hS hl
    · replace hf := o_t hf c_18
      refine lv_aload_n hx hb dX4_counts_21 rfl (lv_at hl 0 rfl) ?_
      refine lv_iload_n hx hb dX4_counts_22 rfl (lv_at hl 2 rfl) ?_
      refine k_bind hf (fun v32 hv32 hf => ?_)
      refine m_call (As := [.int q.1]) (rest := [.int q.1, .ref (mad G 34)]) S hR hS (met_X4_costIn hv32) wi_X4_costIn rfl q3001 ⟨rfl, rfl⟩ ⟨Nat.le_of_ble_eq_true rfl, Nat.le_of_ble_eq_true rfl⟩ rfl hl.1 rfl (Nat.le_of_ble_eq_true rfl) dX4_counts_23 (fun H locs hR hS => ?_)
      refine lv_i2l hx hb dX4_counts_26 rfl ?_
      refine lv_goto (tgt := 31) hx hb dX4_counts_27 (by decide) ?_
      exact wJX4_counts_31 S hf hK hE249 _ _ _ hR hS hl
set_option maxHeartbeats 4000000 in
set_option maxRecDepth 100000 in
theorem wLX4_counts_7 {l : Launch} {G : mG} {p : Program} {e : Env} {s : State} {m : MethodId} {args : Array Value} {below : List Frame} {meth : Method} {c : Code} {Q : State → Prop} {y1 : Int32} {q : Int32 × mS} {res : mS} (S : mSt G p m c cX4_counts 5 s args meth (Option.none : Option Jvm.ClassFile.FieldType)) (h : lpw (LX4_counts_7 y1) q = some res) (hE249 : ∀ b, res = b → (∀ (H : Heap) (locs : List Loc) (ls : Array Slot), mR G b H → va_S (mA G) s.heap H locs → lv_has ls 5 [(0, .ref (mo G))] → W p l e (mRm 2 45) s m args below meth c H locs 0 0 Q (F0 m 249 ls []))) : (∀ (H : Heap) (locs : List Loc) (ls : Array Slot), mR G q.2 H → va_S (mA G) s.heap H locs → lv_has ls 5 [(0, .ref (mo G)), (1, .int y1), (2, .int q.1)] → W p l e (mRm 2 45) s m args below meth c H locs 0 0 Q (F0 m 7 ls [])) :=
  lpw_go _ (fun q => (∀ (H : Heap) (locs : List Loc) (ls : Array Slot), mR G q.2 H → va_S (mA G) s.heap H locs → lv_has ls 5 [(0, .ref (mo G)), (1, .int y1), (2, .int q.1)] → W p l e (mRm 2 45) s m args below meth c H locs 0 0 Q (F0 m 7 ls []))) (fun b0 => (∀ b, b0 = b → (∀ (H : Heap) (locs : List Loc) (ls : Array Slot), mR G b H → va_S (mA G) s.heap H locs → lv_has ls 5 [(0, .ref (mo G))] → W p l e (mRm 2 45) s m args below meth c H locs 0 0 Q (F0 m 249 ls [])))) (fun q x hf hK hX => wbLX4_counts_7 S hf hK (fun b eb => (hX _ eb) b rfl)) q res h hE249
set_option maxHeartbeats 4000000 in
set_option maxRecDepth 100000 in
theorem met_X4_counts {l : Launch} {G : mG} {x1 : Int32} {σ : mS} {res : mS} (hf : fX4_counts x1 σ = some res) : mMet l yX4_counts cX4_counts 5 (Option.none : Option Jvm.ClassFile.FieldType) (mRm 2 45) G [.ref (mo G), .int x1] σ none res := by
  replace hf : ((some ((σ.1 26) - (1 : Int32))).bind (fun v1 => (lpw (LX4_counts_7 x1) (v1, σ)).bind (fun b33 => some b33))) = some res := hf
  refine m_start (by decide) rfl (Nat.le_of_ble_eq_true rfl) ?_
  intro p e s m args below meth c S hR hS ls hl
  obtain ⟨hx, hb, hml, hown, hts⟩ := S.1.1
  have hl : lv_has ls 5 [(0, .ref (mo G)), (1, .int x1)] := hl
  refine lv_aload_n hx hb dX4_counts_0 rfl (lv_at hl 0 rfl) ?_
  refine m_geti (k := 26) S hR (by decide) (by decide) q2552 dX4_counts_1 ?_
  refine lv_iconst (v := 1) hx hb dX4_counts_4 (by decide) ?_
  refine lv_isub hx hb dX4_counts_5 ?_
  refine k_bind hf (fun v1 hv1 hf => ?_)
  refine m_nmi hv1 ?_
  refine lv_istore_n (lv' := [(2, .int v1), (0, .ref (mo G)), (1, .int x1)]) hx hb dX4_counts_6 rfl hl (by decide) rfl (fun ls hl => ?_)
  refine k_bind hf (fun b33 hb33 hf => ?_)
  refine wLX4_counts_7 S hb33 ?_ _ _ _ hR hS (lv_sub (l' := [(0, .ref (mo G)), (1, .int x1), (2, .int v1)]) hl [1, 2, 0] rfl)
  · intro b eb; subst eb; intro H locs ls hR hS hl
    obtain rfl := Option.some.inj hf
    exact m_vret S hR hS dX4_counts_249
