/-! the reference, walked: isSheet isPacked packs branch searches -/
noncomputable def fX4_isSheet (x0 : Int32) : Int32 :=
  ((fX4_in x0 (0 : Int32) (3 : Int32)) &&& 1)
theorem wi_X4_isSheet : wInfS yX4_isSheet cX4_isSheet 1 (Option.some Jvm.ClassFile.FieldType.boolean) 1 := ⟨q2894, q116, q2895, (by decide +kernel), (by decide +kernel), (by decide +kernel)⟩
set_option maxHeartbeats 4000000 in
set_option maxRecDepth 100000 in
theorem met_X4_isSheet {l : Launch} {x0 : Int32} {res : Int32} (hf : fX4_isSheet x0 = res) : sMet l yX4_isSheet cX4_isSheet 1 (Option.some Jvm.ClassFile.FieldType.boolean) (mRm 1 22) [.int x0] (some (.int res)) := by
  replace hf : ((fX4_in x0 (0 : Int32) (3 : Int32)) &&& 1) = res := hf
  refine s_start (by decide) (Nat.le_of_ble_eq_true rfl) ?_
  intro p e s m args below meth c S ls hl
  obtain ⟨hx, hb, hml, hown, hts⟩ := S.1
  have hl : lv_has ls 1 [(0, .int x0)] := hl
  refine lv_iload_n hx hb dX4_isSheet_0 rfl (lv_at hl 0 rfl) ?_
  refine lv_iconst (v := 0) hx hb dX4_isSheet_1 (by decide) ?_
  refine lv_iconst (v := 3) hx hb dX4_isSheet_2 (by decide) ?_
  refine s_call (As := [.int x0, .int (0 : Int32), .int (3 : Int32)]) (rest := []) S.1 (met_X4_in rfl) wi_X4_in q2681 ⟨rfl, rfl⟩ ⟨Nat.le_of_ble_eq_true rfl, Nat.le_of_ble_eq_true rfl⟩ rfl hl.1 rfl (Nat.le_of_ble_eq_true rfl) dX4_isSheet_3 ⟨Nat.zero_le _, Nat.zero_le _⟩ ?_
  subst hf
  exact s_iret S rfl dX4_isSheet_6

noncomputable def LX4_isPacked_28 (y1 : Int32) (σ : mS) (q : Int32 × Int32) : Option ((Int32 × Int32) ⊕ (Int32)) :=
  if (σ.1 0) ≤ q.2 then some (Sum.inr q.1) else if q.1 = (0 : Int32) then some (Sum.inr q.1) else if (fX4_has y1 q.2) = (0 : Int32) then some (Sum.inl ((1 : Int32), q.2 + (1 : Int32))) else (mald σ 4 q.2).bind (fun v1 => if (y1 &&& (v1 ^^^ (-1 : Int32))) = (ish (1 : Int32) q.2) then some (Sum.inl ((1 : Int32), q.2 + (1 : Int32))) else some (Sum.inl ((0 : Int32), q.2 + (1 : Int32))))
noncomputable def JX4_isPacked_25 (y1 : Int32) (z0 : Int32) (σ : mS) : Option Int32 :=
  (lpw (LX4_isPacked_28 y1 σ) (z0, (0 : Int32))).bind (fun b2 => some (b2 &&& 1))
noncomputable def fX4_isPacked (x1 : Int32) (σ : mS) : Option Int32 :=
  if (fX4_isSet x1 σ) = (0 : Int32) then JX4_isPacked_25 x1 (0 : Int32) σ else (fX4_bits x1).bind (fun v3 => if (fX4_in v3 (2 : Int32) (3 : Int32)) = (0 : Int32) then JX4_isPacked_25 x1 (0 : Int32) σ else JX4_isPacked_25 x1 (1 : Int32) σ)
theorem wi_X4_isPacked : wInfV yX4_isPacked cX4_isPacked 4 (Option.some Jvm.ClassFile.FieldType.boolean) 1 := ⟨q2898, qs83, q116, q2899, (by decide +kernel), (by decide +kernel), (by decide +kernel)⟩
set_option maxHeartbeats 4000000 in
set_option maxRecDepth 100000 in
theorem wbLX4_isPacked_28 {l : Launch} {G : mG} {p : Program} {e : Env} {s : State} {m : MethodId} {args : Array Value} {below : List Frame} {meth : Method} {c : Code} {Q : State → Prop} {y1 : Int32} {σ : mS} {q : Int32 × Int32} {res : (Int32 × Int32) ⊕ (Int32)} (S : mSt G p m c cX4_isPacked 4 s args meth (Option.some Jvm.ClassFile.FieldType.boolean)) (hf : LX4_isPacked_28 y1 σ q = some res) (hK : ∀ q, res = Sum.inl q → (∀ (H : Heap) (locs : List Loc) (ls : Array Slot), mR G σ H → va_S (mA G) s.heap H locs → lv_has ls 4 [(0, .ref (mo G)), (1, .int y1), (2, .int q.1), (3, .int q.2)] → W p l e (mRm 2 41) s m args below meth c H locs 0 0 Q (F0 m 28 ls []))) (hE76 : ∀ b, res = Sum.inr b → (∀ (H : Heap) (locs : List Loc) (ls : Array Slot), mR G σ H → va_S (mA G) s.heap H locs → lv_has ls 4 [(0, .ref (mo G)), (2, .int b)] → W p l e (mRm 2 41) s m args below meth c H locs 0 0 Q (F0 m 76 ls []))) : (∀ (H : Heap) (locs : List Loc) (ls : Array Slot), mR G σ H → va_S (mA G) s.heap H locs → lv_has ls 4 [(0, .ref (mo G)), (1, .int y1), (2, .int q.1), (3, .int q.2)] → W p l e (mRm 2 41) s m args below meth c H locs 0 0 Q (F0 m 28 ls [])) := by
  replace hf : (if (σ.1 0) ≤ q.2 then some (Sum.inr q.1) else if q.1 = (0 : Int32) then some (Sum.inr q.1) else if (fX4_has y1 q.2) = (0 : Int32) then some (Sum.inl ((1 : Int32), q.2 + (1 : Int32))) else (mald σ 4 q.2).bind (fun v1 => if (y1 &&& (v1 ^^^ (-1 : Int32))) = (ish (1 : Int32) q.2) then some (Sum.inl ((1 : Int32), q.2 + (1 : Int32))) else some (Sum.inl ((0 : Int32), q.2 + (1 : Int32))))) = some res := hf
  obtain ⟨hx, hb, hml, hown, hts⟩ := S.1.1
  intro H locs ls hR hS hl
  refine lv_iload_n hx hb dX4_isPacked_28 rfl (lv_at hl 3 rfl) ?_
  refine lv_aload_n hx hb dX4_isPacked_29 rfl (lv_at hl 0 rfl) ?_
  refine m_geti (k := 0) S hR (by decide) (by decide) q2526 dX4_isPacked_30 ?_
  refine lv_icmp_ge (tgt := 76) hx hb dX4_isPacked_33 (by decide) (fun c_33 => ?_) (fun c_33 => ?_)
  · replace hf := o_t hf c_33
    exact hE76 _ (Option.some.inj hf).symm _ _ _ hR hS (lv_sub (l' := [(0, .ref (mo G)), (2, .int q.1)]) hl [0, 2] rfl)
  · replace hf := o_f hf c_33
    refine lv_iload_n hx hb dX4_isPacked_36 rfl (lv_at hl 2 rfl) ?_
    refine lv_if_eq (tgt := 76) hx hb dX4_isPacked_37 (by decide) (fun c_37 => ?_) (fun c_37 => ?_)
    · replace hf := o_t hf c_37
      exact hE76 _ (Option.some.inj hf).symm _ _ _ hR hS (lv_sub (l' := [(0, .ref (mo G)), (2, .int q.1)]) hl [0, 2] rfl)
    · replace hf := o_f hf c_37
      refine lv_iload_n hx hb dX4_isPacked_40 rfl (lv_at hl 1 rfl) ?_
      refine lv_iload_n hx hb dX4_isPacked_41 rfl (lv_at hl 3 rfl) ?_
      refine s_call (As := [.int y1, .int q.2]) (rest := []) S.1.1 (met_X4_has rfl) wi_X4_has q2750 ⟨rfl, rfl⟩ ⟨Nat.le_of_ble_eq_true rfl, Nat.le_of_ble_eq_true rfl⟩ rfl hl.1 rfl (Nat.le_of_ble_eq_true rfl) dX4_isPacked_42 ⟨Nat.zero_le _, Nat.zero_le _⟩ ?_
      refine lv_if_eq (tgt := 64) hx hb dX4_isPacked_45 (by decide) (fun c_45 => ?_) (fun c_45 => ?_)
      · replace hf := o_t hf c_45
        refine lv_iconst (v := 1) hx hb dX4_isPacked_64 (by decide) ?_
        refine lv_goto (tgt := 69) hx hb dX4_isPacked_65 (by decide) ?_
        refine lv_istore_n (lv' := [(2, .int (1 : Int32)), (0, .ref (mo G)), (1, .int y1), (3, .int q.2)]) hx hb dX4_isPacked_69 rfl hl (by decide) rfl (fun ls hl => ?_)
        refine lv_iinc (lv' := [(3, .int (q.2 + (1 : Int32))), (2, .int (1 : Int32)), (0, .ref (mo G)), (1, .int y1)]) hx hb dX4_isPacked_70 hl (k := 3) rfl (m_inc (by decide)) (by decide) rfl (fun ls hl => ?_)
        refine lv_goto (tgt := 28) hx hb dX4_isPacked_73 (by decide) ?_
        exact hK _ (Option.some.inj hf).symm _ _ _ hR hS (lv_sub (l' := [(0, .ref (mo G)), (1, .int y1), (2, .int (1 : Int32)), (3, .int (q.2 + (1 : Int32)))]) hl [2, 3, 1, 0] rfl)
      · replace hf := o_f hf c_45
        refine lv_iload_n hx hb dX4_isPacked_48 rfl (lv_at hl 1 rfl) ?_
        refine lv_aload_n hx hb dX4_isPacked_49 rfl (lv_at hl 0 rfl) ?_
        refine m_geta (k := 4) S hR (by decide) (by decide) q2530 dX4_isPacked_50 ?_
        refine lv_iload_n hx hb dX4_isPacked_53 rfl (lv_at hl 3 rfl) ?_
        refine k_bind hf (fun v1 hv1 hf => ?_)
        refine m_iald S hR hv1 dX4_isPacked_54 ?_
        refine lv_iconst (v := -1) hx hb dX4_isPacked_55 (by decide) ?_
        refine lv_ixor hx hb dX4_isPacked_56 ?_
        refine lv_iand hx hb dX4_isPacked_57 ?_
        refine lv_iconst (v := 1) hx hb dX4_isPacked_58 (by decide) ?_
        refine lv_iload_n hx hb dX4_isPacked_59 rfl (lv_at hl 3 rfl) ?_
        refine lv_ishl hx hb dX4_isPacked_60 ?_
        refine lv_icmp_ne (tgt := 68) hx hb dX4_isPacked_61 (by decide) (fun c_61 => ?_) (fun c_61 => ?_)
        · replace hf := o_f hf c_61
          refine lv_iconst (v := 0) hx hb dX4_isPacked_68 (by decide) ?_
          refine lv_istore_n (lv' := [(2, .int (0 : Int32)), (0, .ref (mo G)), (1, .int y1), (3, .int q.2)]) hx hb dX4_isPacked_69 rfl hl (by decide) rfl (fun ls hl => ?_)
          refine lv_iinc (lv' := [(3, .int (q.2 + (1 : Int32))), (2, .int (0 : Int32)), (0, .ref (mo G)), (1, .int y1)]) hx hb dX4_isPacked_70 hl (k := 3) rfl (m_inc (by decide)) (by decide) rfl (fun ls hl => ?_)
          refine lv_goto (tgt := 28) hx hb dX4_isPacked_73 (by decide) ?_
          exact hK _ (Option.some.inj hf).symm _ _ _ hR hS (lv_sub (l' := [(0, .ref (mo G)), (1, .int y1), (2, .int (0 : Int32)), (3, .int (q.2 + (1 : Int32)))]) hl [2, 3, 1, 0] rfl)
        · replace hf := o_t hf c_61
          refine lv_iconst (v := 1) hx hb dX4_isPacked_64 (by decide) ?_
          refine lv_goto (tgt := 69) hx hb dX4_isPacked_65 (by decide) ?_
          refine lv_istore_n (lv' := [(2, .int (1 : Int32)), (0, .ref (mo G)), (1, .int y1), (3, .int q.2)]) hx hb dX4_isPacked_69 rfl hl (by decide) rfl (fun ls hl => ?_)
          refine lv_iinc (lv' := [(3, .int (q.2 + (1 : Int32))), (2, .int (1 : Int32)), (0, .ref (mo G)), (1, .int y1)]) hx hb dX4_isPacked_70 hl (k := 3) rfl (m_inc (by decide)) (by decide) rfl (fun ls hl => ?_)
          refine lv_goto (tgt := 28) hx hb dX4_isPacked_73 (by decide) ?_
          exact hK _ (Option.some.inj hf).symm _ _ _ hR hS (lv_sub (l' := [(0, .ref (mo G)), (1, .int y1), (2, .int (1 : Int32)), (3, .int (q.2 + (1 : Int32)))]) hl [2, 3, 1, 0] rfl)
set_option maxHeartbeats 4000000 in
set_option maxRecDepth 100000 in
theorem wLX4_isPacked_28 {l : Launch} {G : mG} {p : Program} {e : Env} {s : State} {m : MethodId} {args : Array Value} {below : List Frame} {meth : Method} {c : Code} {Q : State → Prop} {y1 : Int32} {σ : mS} {q : Int32 × Int32} {res : Int32} (S : mSt G p m c cX4_isPacked 4 s args meth (Option.some Jvm.ClassFile.FieldType.boolean)) (h : lpw (LX4_isPacked_28 y1 σ) q = some res) (hE76 : ∀ b, res = b → (∀ (H : Heap) (locs : List Loc) (ls : Array Slot), mR G σ H → va_S (mA G) s.heap H locs → lv_has ls 4 [(0, .ref (mo G)), (2, .int b)] → W p l e (mRm 2 41) s m args below meth c H locs 0 0 Q (F0 m 76 ls []))) : (∀ (H : Heap) (locs : List Loc) (ls : Array Slot), mR G σ H → va_S (mA G) s.heap H locs → lv_has ls 4 [(0, .ref (mo G)), (1, .int y1), (2, .int q.1), (3, .int q.2)] → W p l e (mRm 2 41) s m args below meth c H locs 0 0 Q (F0 m 28 ls [])) :=
  lpw_go _ (fun q => (∀ (H : Heap) (locs : List Loc) (ls : Array Slot), mR G σ H → va_S (mA G) s.heap H locs → lv_has ls 4 [(0, .ref (mo G)), (1, .int y1), (2, .int q.1), (3, .int q.2)] → W p l e (mRm 2 41) s m args below meth c H locs 0 0 Q (F0 m 28 ls []))) (fun b0 => (∀ b, b0 = b → (∀ (H : Heap) (locs : List Loc) (ls : Array Slot), mR G σ H → va_S (mA G) s.heap H locs → lv_has ls 4 [(0, .ref (mo G)), (2, .int b)] → W p l e (mRm 2 41) s m args below meth c H locs 0 0 Q (F0 m 76 ls [])))) (fun q x hf hK hX => wbLX4_isPacked_28 S hf hK (fun b eb => (hX _ eb) b rfl)) q res h hE76
set_option maxHeartbeats 4000000 in
set_option maxRecDepth 100000 in
theorem wJX4_isPacked_25 {l : Launch} {G : mG} {p : Program} {e : Env} {s : State} {m : MethodId} {args : Array Value} {below : List Frame} {meth : Method} {c : Code} {y1 : Int32} {z0 : Int32} {σ : mS} {res : Int32} (S : mSt G p m c cX4_isPacked 4 s args meth (Option.some Jvm.ClassFile.FieldType.boolean)) (hf : JX4_isPacked_25 y1 z0 σ = some res) : ∀ (H : Heap) (locs : List Loc) (ls : Array Slot), mR G σ H → va_S (mA G) s.heap H locs → lv_has ls 4 [(0, .ref (mo G)), (1, .int y1)] → W p l e (mRm 2 41) s m args below meth c H locs 0 0 (MQ below (mQ G (some (.int res)) σ) args s 0 0 (mA G)) (F0 m 25 ls [.int z0]) := by
  replace hf : ((lpw (LX4_isPacked_28 y1 σ) (z0, (0 : Int32))).bind (fun b2 => some (b2 &&& 1))) = some res := hf
  obtain ⟨hx, hb, hml, hown, hts⟩ := S.1.1
  intro H locs ls hR hS hl
  refine lv_istore_n (lv' := [(2, .int z0), (0, .ref (mo G)), (1, .int y1)]) hx hb dX4_isPacked_25 rfl hl (by decide) rfl (fun ls hl => ?_)
  refine lv_iconst (v := 0) hx hb dX4_isPacked_26 (by decide) ?_
  refine lv_istore_n (lv' := [(3, .int (0 : Int32)), (2, .int z0), (0, .ref (mo G)), (1, .int y1)]) hx hb dX4_isPacked_27 rfl hl (by decide) rfl (fun ls hl => ?_)
  refine k_bind hf (fun b2 hb2 hf => ?_)
  refine wLX4_isPacked_28 S hb2 ?_ _ _ _ hR hS (lv_sub (l' := [(0, .ref (mo G)), (1, .int y1), (2, .int z0), (3, .int (0 : Int32))]) hl [2, 3, 1, 0] rfl)
  · intro b eb; subst eb; intro H locs ls hR hS hl
    refine lv_iload_n hx hb dX4_isPacked_76 rfl (lv_at hl 1 rfl) ?_
    obtain rfl := Option.some.inj hf
    exact m_iret S hR hS rfl dX4_isPacked_77
set_option maxHeartbeats 4000000 in
set_option maxRecDepth 100000 in
theorem met_X4_isPacked {l : Launch} {G : mG} {x1 : Int32} {σ : mS} {res : Int32} (hf : fX4_isPacked x1 σ = some res) : mMet l yX4_isPacked cX4_isPacked 4 (Option.some Jvm.ClassFile.FieldType.boolean) (mRm 2 41) G [.ref (mo G), .int x1] σ (some (.int res)) σ := by
  replace hf : (if (fX4_isSet x1 σ) = (0 : Int32) then JX4_isPacked_25 x1 (0 : Int32) σ else (fX4_bits x1).bind (fun v3 => if (fX4_in v3 (2 : Int32) (3 : Int32)) = (0 : Int32) then JX4_isPacked_25 x1 (0 : Int32) σ else JX4_isPacked_25 x1 (1 : Int32) σ)) = some res := hf
  refine m_start (by decide) rfl (Nat.le_of_ble_eq_true rfl) ?_
  intro p e s m args below meth c S hR hS ls hl
  obtain ⟨hx, hb, hml, hown, hts⟩ := S.1.1
  have hl : lv_has ls 4 [(0, .ref (mo G)), (1, .int x1)] := hl
  refine lv_aload_n hx hb dX4_isPacked_0 rfl (lv_at hl 0 rfl) ?_
  refine lv_iload_n hx hb dX4_isPacked_1 rfl (lv_at hl 1 rfl) ?_
  refine m_call (As := [.int x1]) (rest := []) S hR hS (met_X4_isSet rfl) wi_X4_isSet rfl q2734 ⟨rfl, rfl⟩ ⟨Nat.le_of_ble_eq_true rfl, Nat.le_of_ble_eq_true rfl⟩ rfl hl.1 rfl (Nat.le_of_ble_eq_true rfl) dX4_isPacked_2 (fun H locs hR hS => ?_)
  refine lv_if_eq (tgt := 24) hx hb dX4_isPacked_5 (by decide) (fun c_5 => ?_) (fun c_5 => ?_)
  · replace hf := o_t hf c_5
    refine lv_iconst (v := 0) hx hb dX4_isPacked_24 (by decide) ?_
    exact wJX4_isPacked_25 S hf _ _ _ hR hS hl
  · replace hf := o_f hf c_5
    refine lv_iload_n hx hb dX4_isPacked_8 rfl (lv_at hl 1 rfl) ?_
    refine k_bind hf (fun v3 hv3 hf => ?_)
    refine s_call (As := [.int x1]) (rest := []) S.1.1 (met_X4_bits hv3) wi_X4_bits q2712 ⟨rfl, rfl⟩ ⟨Nat.le_of_ble_eq_true rfl, Nat.le_of_ble_eq_true rfl⟩ rfl hl.1 rfl (Nat.le_of_ble_eq_true rfl) dX4_isPacked_9 ⟨Nat.zero_le _, Nat.zero_le _⟩ ?_
    refine lv_iconst (v := 2) hx hb dX4_isPacked_12 (by decide) ?_
    refine lv_iconst (v := 3) hx hb dX4_isPacked_13 (by decide) ?_
    refine s_call (As := [.int v3, .int (2 : Int32), .int (3 : Int32)]) (rest := []) S.1.1 (met_X4_in rfl) wi_X4_in q2681 ⟨rfl, rfl⟩ ⟨Nat.le_of_ble_eq_true rfl, Nat.le_of_ble_eq_true rfl⟩ rfl hl.1 rfl (Nat.le_of_ble_eq_true rfl) dX4_isPacked_14 ⟨Nat.zero_le _, Nat.zero_le _⟩ ?_
    refine lv_if_eq (tgt := 24) hx hb dX4_isPacked_17 (by decide) (fun c_17 => ?_) (fun c_17 => ?_)
    · replace hf := o_t hf c_17
      refine lv_iconst (v := 0) hx hb dX4_isPacked_24 (by decide) ?_
      exact wJX4_isPacked_25 S hf _ _ _ hR hS hl
    · replace hf := o_f hf c_17
      refine lv_iconst (v := 1) hx hb dX4_isPacked_20 (by decide) ?_
      refine lv_goto (tgt := 25) hx hb dX4_isPacked_21 (by decide) ?_
      exact wJX4_isPacked_25 S hf _ _ _ hR hS hl

noncomputable def LX4_packs_30 (y1 : Int32) (σ : mS) (q : Int32 × Int32 × Int32) : Option ((Int32 × Int32 × Int32) ⊕ ((Int32) ⊕ (Int32))) :=
  (mald σ 44 y1).bind (fun v2 => if v2 ≤ q.2.2 then some (Sum.inr (Sum.inr q.2.1)) else (mald σ 45 (((60 : Int32) * y1) + q.2.2)).bind (fun v3 => (fX4_isPacked v3 σ).bind (fun v4 => if v4 = (0 : Int32) then some (Sum.inr (Sum.inl q.2.2)) else if (v3 &&& q.1) = (0 : Int32) then (some (q.1 ||| v3)).bind (fun v5 => (fX4_bits v3).bind (fun v6 => (some (q.2.1 + (v6 - (1 : Int32)))).bind (fun v7 => some (Sum.inl (v5, v7, q.2.2 + (1 : Int32)))))) else some (Sum.inr (Sum.inl q.2.2)))))
noncomputable def fX4_packs (x1 : Int32) (σ : mS) : Option Int32 :=
  if (fX4_isSheet x1) = (0 : Int32) then some (-2 : Int32) else (mald σ 43 x1).bind (fun v1 => if v1 = (-1 : Int32) then some (-11 : Int32) else (lpw (LX4_packs_30 x1 σ) ((0 : Int32), (0 : Int32), (0 : Int32))).bind ((fun e => Sum.elim (fun b9 => some ((-100 : Int32) - b9)) (fun b10 => some b10) e)))
theorem wi_X4_packs : wInfV yX4_packs cX4_packs 6 (Option.some Jvm.ClassFile.FieldType.int) 1 := ⟨q2890, q2891, q116, q2892, (by decide +kernel), (by decide +kernel), (by decide +kernel)⟩
set_option maxHeartbeats 4000000 in
set_option maxRecDepth 100000 in
theorem wbLX4_packs_30 {l : Launch} {G : mG} {p : Program} {e : Env} {s : State} {m : MethodId} {args : Array Value} {below : List Frame} {meth : Method} {c : Code} {Q : State → Prop} {y1 : Int32} {σ : mS} {q : Int32 × Int32 × Int32} {res : (Int32 × Int32 × Int32) ⊕ ((Int32) ⊕ (Int32))} (S : mSt G p m c cX4_packs 6 s args meth (Option.some Jvm.ClassFile.FieldType.int)) (hf : LX4_packs_30 y1 σ q = some res) (hK : ∀ q, res = Sum.inl q → (∀ (H : Heap) (locs : List Loc) (ls : Array Slot), mR G σ H → va_S (mA G) s.heap H locs → lv_has ls 6 [(0, .ref (mo G)), (1, .int y1), (2, .int q.1), (3, .int q.2.1), (4, .int q.2.2)] → W p l e (mRm 3 64) s m args below meth c H locs 0 0 Q (F0 m 30 ls []))) (hE71 : ∀ b, res = Sum.inr (Sum.inl b) → (∀ (H : Heap) (locs : List Loc) (ls : Array Slot), mR G σ H → va_S (mA G) s.heap H locs → lv_has ls 6 [(0, .ref (mo G)), (4, .int b)] → W p l e (mRm 3 64) s m args below meth c H locs 0 0 Q (F0 m 71 ls []))) (hE98 : ∀ b, res = Sum.inr (Sum.inr b) → (∀ (H : Heap) (locs : List Loc) (ls : Array Slot), mR G σ H → va_S (mA G) s.heap H locs → lv_has ls 6 [(0, .ref (mo G)), (3, .int b)] → W p l e (mRm 3 64) s m args below meth c H locs 0 0 Q (F0 m 98 ls []))) : (∀ (H : Heap) (locs : List Loc) (ls : Array Slot), mR G σ H → va_S (mA G) s.heap H locs → lv_has ls 6 [(0, .ref (mo G)), (1, .int y1), (2, .int q.1), (3, .int q.2.1), (4, .int q.2.2)] → W p l e (mRm 3 64) s m args below meth c H locs 0 0 Q (F0 m 30 ls [])) := by
  replace hf : ((mald σ 44 y1).bind (fun v2 => if v2 ≤ q.2.2 then some (Sum.inr (Sum.inr q.2.1)) else (mald σ 45 (((60 : Int32) * y1) + q.2.2)).bind (fun v3 => (fX4_isPacked v3 σ).bind (fun v4 => if v4 = (0 : Int32) then some (Sum.inr (Sum.inl q.2.2)) else if (v3 &&& q.1) = (0 : Int32) then (some (q.1 ||| v3)).bind (fun v5 => (fX4_bits v3).bind (fun v6 => (some (q.2.1 + (v6 - (1 : Int32)))).bind (fun v7 => some (Sum.inl (v5, v7, q.2.2 + (1 : Int32)))))) else some (Sum.inr (Sum.inl q.2.2)))))) = some res := hf
  obtain ⟨hx, hb, hml, hown, hts⟩ := S.1.1
  intro H locs ls hR hS hl
  refine lv_iload hx hb dX4_packs_30 (lv_at hl 4 rfl) ?_
  refine lv_aload_n hx hb dX4_packs_32 rfl (lv_at hl 0 rfl) ?_
  refine m_geta (k := 44) S hR (by decide) (by decide) q2570 dX4_packs_33 ?_
  refine lv_iload_n hx hb dX4_packs_36 rfl (lv_at hl 1 rfl) ?_
  refine k_bind hf (fun v2 hv2 hf => ?_)
  refine m_iald S hR hv2 dX4_packs_37 ?_
  refine lv_icmp_ge (tgt := 98) hx hb dX4_packs_38 (by decide) (fun c_38 => ?_) (fun c_38 => ?_)
  · replace hf := o_t hf c_38
    exact hE98 _ (Option.some.inj hf).symm _ _ _ hR hS (lv_sub (l' := [(0, .ref (mo G)), (3, .int q.2.1)]) hl [0, 3] rfl)
  · replace hf := o_f hf c_38
    refine lv_aload_n hx hb dX4_packs_41 rfl (lv_at hl 0 rfl) ?_
    refine m_geta (k := 45) S hR (by decide) (by decide) q2571 dX4_packs_42 ?_
    refine lv_bipush (v := 60) hx hb dX4_packs_45 (by decide) ?_
    refine lv_iload_n hx hb dX4_packs_47 rfl (lv_at hl 1 rfl) ?_
    refine lv_imul hx hb dX4_packs_48 ?_
    refine lv_iload hx hb dX4_packs_49 (lv_at hl 4 rfl) ?_
    refine lv_iadd hx hb dX4_packs_51 ?_
    refine k_bind hf (fun v3 hv3 hf => ?_)
    refine m_iald S hR hv3 dX4_packs_52 ?_
    refine lv_istore (lv' := [(5, .int v3), (0, .ref (mo G)), (1, .int y1), (2, .int q.1), (3, .int q.2.1), (4, .int q.2.2)]) hx hb dX4_packs_53 hl (by decide) rfl (fun ls hl => ?_)
    refine lv_aload_n hx hb dX4_packs_55 rfl (lv_at hl 1 rfl) ?_
    refine lv_iload hx hb dX4_packs_56 (lv_at hl 0 rfl) ?_
    refine k_bind hf (fun v4 hv4 hf => ?_)
    refine m_call (As := [.int v3]) (rest := []) S hR hS (met_X4_isPacked hv4) wi_X4_isPacked rfl q2896 ⟨rfl, rfl⟩ ⟨Nat.le_of_ble_eq_true rfl, Nat.le_of_ble_eq_true rfl⟩ rfl hl.1 rfl (Nat.le_of_ble_eq_true rfl) dX4_packs_58 (fun H locs hR hS => ?_)
    refine lv_if_eq (tgt := 71) hx hb dX4_packs_61 (by decide) (fun c_61 => ?_) (fun c_61 => ?_)
    · replace hf := o_t hf c_61
      exact hE71 _ (Option.some.inj hf).symm _ _ _ hR hS (lv_sub (l' := [(0, .ref (mo G)), (4, .int q.2.2)]) hl [1, 5] rfl)
    · replace hf := o_f hf c_61
      refine lv_iload hx hb dX4_packs_64 (lv_at hl 0 rfl) ?_
      refine lv_iload_n hx hb dX4_packs_66 rfl (lv_at hl 3 rfl) ?_
      refine lv_iand hx hb dX4_packs_67 ?_
      refine lv_if_eq (tgt := 77) hx hb dX4_packs_68 (by decide) (fun c_68 => ?_) (fun c_68 => ?_)
      · replace hf := o_t hf c_68
        refine lv_iload_n hx hb dX4_packs_77 rfl (lv_at hl 3 rfl) ?_
        refine lv_iload hx hb dX4_packs_78 (lv_at hl 0 rfl) ?_
        refine lv_ior hx hb dX4_packs_80 ?_
        refine k_bind hf (fun v5 hv5 hf => ?_)
        refine m_nmi hv5 ?_
        refine lv_istore_n (lv' := [(2, .int v5), (5, .int v3), (0, .ref (mo G)), (1, .int y1), (3, .int q.2.1), (4, .int q.2.2)]) hx hb dX4_packs_81 rfl hl (by decide) rfl (fun ls hl => ?_)
        refine lv_iload_n hx hb dX4_packs_82 rfl (lv_at hl 4 rfl) ?_
        refine lv_iload hx hb dX4_packs_83 (lv_at hl 1 rfl) ?_
        refine k_bind hf (fun v6 hv6 hf => ?_)
        refine s_call (As := [.int v3]) (rest := [.int q.2.1]) S.1.1 (met_X4_bits hv6) wi_X4_bits q2712 ⟨rfl, rfl⟩ ⟨Nat.le_of_ble_eq_true rfl, Nat.le_of_ble_eq_true rfl⟩ rfl hl.1 rfl (Nat.le_of_ble_eq_true rfl) dX4_packs_85 ⟨Nat.zero_le _, Nat.zero_le _⟩ ?_
        refine lv_iconst (v := 1) hx hb dX4_packs_88 (by decide) ?_
        refine lv_isub hx hb dX4_packs_89 ?_
        refine lv_iadd hx hb dX4_packs_90 ?_
        refine k_bind hf (fun v7 hv7 hf => ?_)
        refine m_nmi hv7 ?_
        refine lv_istore_n (lv' := [(3, .int v7), (2, .int v5), (5, .int v3), (0, .ref (mo G)), (1, .int y1), (4, .int q.2.2)]) hx hb dX4_packs_91 rfl hl (by decide) rfl (fun ls hl => ?_)
        refine lv_iinc (lv' := [(4, .int (q.2.2 + (1 : Int32))), (3, .int v7), (2, .int v5), (5, .int v3), (0, .ref (mo G)), (1, .int y1)]) hx hb dX4_packs_92 hl (k := 5) rfl (m_inc (by decide)) (by decide) rfl (fun ls hl => ?_)
        refine lv_goto (tgt := 30) hx hb dX4_packs_95 (by decide) ?_
        exact hK _ (Option.some.inj hf).symm _ _ _ hR hS (lv_sub (l' := [(0, .ref (mo G)), (1, .int y1), (2, .int v5), (3, .int v7), (4, .int (q.2.2 + (1 : Int32)))]) hl [4, 5, 2, 1, 0] rfl)
      · replace hf := o_f hf c_68
        exact hE71 _ (Option.some.inj hf).symm _ _ _ hR hS (lv_sub (l' := [(0, .ref (mo G)), (4, .int q.2.2)]) hl [1, 5] rfl)
set_option maxHeartbeats 4000000 in
set_option maxRecDepth 100000 in
theorem wLX4_packs_30 {l : Launch} {G : mG} {p : Program} {e : Env} {s : State} {m : MethodId} {args : Array Value} {below : List Frame} {meth : Method} {c : Code} {Q : State → Prop} {y1 : Int32} {σ : mS} {q : Int32 × Int32 × Int32} {res : (Int32) ⊕ (Int32)} (S : mSt G p m c cX4_packs 6 s args meth (Option.some Jvm.ClassFile.FieldType.int)) (h : lpw (LX4_packs_30 y1 σ) q = some res) (hE71 : ∀ b, res = (Sum.inl b) → (∀ (H : Heap) (locs : List Loc) (ls : Array Slot), mR G σ H → va_S (mA G) s.heap H locs → lv_has ls 6 [(0, .ref (mo G)), (4, .int b)] → W p l e (mRm 3 64) s m args below meth c H locs 0 0 Q (F0 m 71 ls []))) (hE98 : ∀ b, res = (Sum.inr b) → (∀ (H : Heap) (locs : List Loc) (ls : Array Slot), mR G σ H → va_S (mA G) s.heap H locs → lv_has ls 6 [(0, .ref (mo G)), (3, .int b)] → W p l e (mRm 3 64) s m args below meth c H locs 0 0 Q (F0 m 98 ls []))) : (∀ (H : Heap) (locs : List Loc) (ls : Array Slot), mR G σ H → va_S (mA G) s.heap H locs → lv_has ls 6 [(0, .ref (mo G)), (1, .int y1), (2, .int q.1), (3, .int q.2.1), (4, .int q.2.2)] → W p l e (mRm 3 64) s m args below meth c H locs 0 0 Q (F0 m 30 ls [])) :=
  lpw_go _ (fun q => (∀ (H : Heap) (locs : List Loc) (ls : Array Slot), mR G σ H → va_S (mA G) s.heap H locs → lv_has ls 6 [(0, .ref (mo G)), (1, .int y1), (2, .int q.1), (3, .int q.2.1), (4, .int q.2.2)] → W p l e (mRm 3 64) s m args below meth c H locs 0 0 Q (F0 m 30 ls []))) (fun b0 => (∀ b, b0 = (Sum.inl b) → (∀ (H : Heap) (locs : List Loc) (ls : Array Slot), mR G σ H → va_S (mA G) s.heap H locs → lv_has ls 6 [(0, .ref (mo G)), (4, .int b)] → W p l e (mRm 3 64) s m args below meth c H locs 0 0 Q (F0 m 71 ls []))) ∧ (∀ b, b0 = (Sum.inr b) → (∀ (H : Heap) (locs : List Loc) (ls : Array Slot), mR G σ H → va_S (mA G) s.heap H locs → lv_has ls 6 [(0, .ref (mo G)), (3, .int b)] → W p l e (mRm 3 64) s m args below meth c H locs 0 0 Q (F0 m 98 ls [])))) (fun q x hf hK hX => wbLX4_packs_30 S hf hK (fun b eb => (hX _ eb).1 b rfl) (fun b eb => (hX _ eb).2 b rfl)) q res h ⟨hE71, hE98⟩
set_option maxHeartbeats 4000000 in
set_option maxRecDepth 100000 in
theorem met_X4_packs {l : Launch} {G : mG} {x1 : Int32} {σ : mS} {res : Int32} (hf : fX4_packs x1 σ = some res) : mMet l yX4_packs cX4_packs 6 (Option.some Jvm.ClassFile.FieldType.int) (mRm 3 64) G [.ref (mo G), .int x1] σ (some (.int res)) σ := by
  replace hf : (if (fX4_isSheet x1) = (0 : Int32) then some (-2 : Int32) else (mald σ 43 x1).bind (fun v1 => if v1 = (-1 : Int32) then some (-11 : Int32) else (lpw (LX4_packs_30 x1 σ) ((0 : Int32), (0 : Int32), (0 : Int32))).bind ((fun e => Sum.elim (fun b9 => some ((-100 : Int32) - b9)) (fun b10 => some b10) e)))) = some res := hf
  refine m_start (by decide) rfl (Nat.le_of_ble_eq_true rfl) ?_
  intro p e s m args below meth c S hR hS ls hl
  obtain ⟨hx, hb, hml, hown, hts⟩ := S.1.1
  have hl : lv_has ls 6 [(0, .ref (mo G)), (1, .int x1)] := hl
  refine lv_iload_n hx hb dX4_packs_0 rfl (lv_at hl 1 rfl) ?_
  refine s_call (As := [.int x1]) (rest := []) S.1.1 (met_X4_isSheet rfl) wi_X4_isSheet q2893 ⟨rfl, rfl⟩ ⟨Nat.le_of_ble_eq_true rfl, Nat.le_of_ble_eq_true rfl⟩ rfl hl.1 rfl (Nat.le_of_ble_eq_true rfl) dX4_packs_1 ⟨Nat.zero_le _, Nat.zero_le _⟩ ?_
  refine lv_if_ne (tgt := 10) hx hb dX4_packs_4 (by decide) (fun c_4 => ?_) (fun c_4 => ?_)
  · replace hf := o_f hf c_4
    refine lv_aload_n hx hb dX4_packs_10 rfl (lv_at hl 0 rfl) ?_
    refine m_geta (k := 43) S hR (by decide) (by decide) q2569 dX4_packs_11 ?_
    refine lv_iload_n hx hb dX4_packs_14 rfl (lv_at hl 1 rfl) ?_
    refine k_bind hf (fun v1 hv1 hf => ?_)
    refine m_iald S hR hv1 dX4_packs_15 ?_
    refine lv_iconst (v := -1) hx hb dX4_packs_16 (by decide) ?_
    refine lv_icmp_ne (tgt := 23) hx hb dX4_packs_17 (by decide) (fun c_17 => ?_) (fun c_17 => ?_)
    · replace hf := o_f hf c_17
      refine lv_iconst (v := 0) hx hb dX4_packs_23 (by decide) ?_
      refine lv_istore_n (lv' := [(2, .int (0 : Int32)), (0, .ref (mo G)), (1, .int x1)]) hx hb dX4_packs_24 rfl hl (by decide) rfl (fun ls hl => ?_)
      refine lv_iconst (v := 0) hx hb dX4_packs_25 (by decide) ?_
      refine lv_istore_n (lv' := [(3, .int (0 : Int32)), (2, .int (0 : Int32)), (0, .ref (mo G)), (1, .int x1)]) hx hb dX4_packs_26 rfl hl (by decide) rfl (fun ls hl => ?_)
      refine lv_iconst (v := 0) hx hb dX4_packs_27 (by decide) ?_
      refine lv_istore (lv' := [(4, .int (0 : Int32)), (3, .int (0 : Int32)), (2, .int (0 : Int32)), (0, .ref (mo G)), (1, .int x1)]) hx hb dX4_packs_28 hl (by decide) rfl (fun ls hl => ?_)
      refine k_bind hf (fun b8 hb8 hf => ?_)
      refine wLX4_packs_30 S hb8 ?_ ?_ _ _ _ hR hS (lv_sub (l' := [(0, .ref (mo G)), (1, .int x1), (2, .int (0 : Int32)), (3, .int (0 : Int32)), (4, .int (0 : Int32))]) hl [3, 4, 2, 1, 0] rfl)
      · intro b9 eb; subst eb; intro H locs ls hR hS hl
        replace hf := o_l hf
        refine lv_bipush (v := -100) hx hb dX4_packs_71 (by decide) ?_
        refine lv_iload hx hb dX4_packs_73 (lv_at hl 1 rfl) ?_
        refine lv_isub hx hb dX4_packs_75 ?_
        obtain rfl := Option.some.inj hf
        exact m_iret S hR hS rfl dX4_packs_76
      · intro b10 eb; subst eb; intro H locs ls hR hS hl
        replace hf := o_r hf
        refine lv_iload_n hx hb dX4_packs_98 rfl (lv_at hl 1 rfl) ?_
        obtain rfl := Option.some.inj hf
        exact m_iret S hR hS rfl dX4_packs_99
    · replace hf := o_t hf c_17
      refine lv_bipush (v := -11) hx hb dX4_packs_20 (by decide) ?_
      obtain rfl := Option.some.inj hf
      exact m_iret S hR hS rfl dX4_packs_22
  · replace hf := o_t hf c_4
    refine lv_bipush (v := -2) hx hb dX4_packs_7 (by decide) ?_
    obtain rfl := Option.some.inj hf
    exact m_iret S hR hS rfl dX4_packs_9

noncomputable def JX4_branch_41 (y1 : Int32) (y2 : Int32) (y3 : Int32) (z0 : Int32) (z1 : Int32) (σ : mS) : Option ((Int32 × Int32) ⊕ (Int32)) :=
  if z1 ≤ z0 then some (Sum.inl (y2, y3 + (1 : Int32))) else some (Sum.inl (y3, y3 + (1 : Int32)))
noncomputable def LX4_branch_4 (y1 : Int32) (σ : mS) (q : Int32 × Int32) : Option ((Int32 × Int32) ⊕ (Int32)) :=
  if (σ.1 0) ≤ q.2 then some (Sum.inr q.1) else if (fX4_has y1 q.2) = (0 : Int32) then some (Sum.inl (q.1, q.2 + (1 : Int32))) else (fX4_degree q.2 y1 σ).bind (fun v1 => if q.1 = (-1 : Int32) then JX4_branch_41 y1 q.1 q.2 (0 : Int32) v1 σ else (fX4_degree q.1 y1 σ).bind (fun v2 => JX4_branch_41 y1 q.1 q.2 v2 v1 σ))
noncomputable def fX4_branch (x1 : Int32) (σ : mS) : Option Int32 :=
  (lpw (LX4_branch_4 x1 σ) ((-1 : Int32), (0 : Int32))).bind (fun b3 => some b3)
theorem wi_X4_branch : wInfV yX4_branch cX4_branch 4 (Option.some Jvm.ClassFile.FieldType.int) 1 := ⟨q2914, qs86, q116, q2915, (by decide +kernel), (by decide +kernel), (by decide +kernel)⟩
set_option maxHeartbeats 4000000 in
set_option maxRecDepth 100000 in
theorem wJX4_branch_41 {l : Launch} {G : mG} {p : Program} {e : Env} {s : State} {m : MethodId} {args : Array Value} {below : List Frame} {meth : Method} {c : Code} {Q : State → Prop} {y1 : Int32} {y2 : Int32} {y3 : Int32} {z0 : Int32} {z1 : Int32} {σ : mS} {res : (Int32 × Int32) ⊕ (Int32)} (S : mSt G p m c cX4_branch 4 s args meth (Option.some Jvm.ClassFile.FieldType.int)) (hf : JX4_branch_41 y1 y2 y3 z0 z1 σ = some res) (hK : ∀ q, res = Sum.inl q → (∀ (H : Heap) (locs : List Loc) (ls : Array Slot), mR G σ H → va_S (mA G) s.heap H locs → lv_has ls 4 [(0, .ref (mo G)), (1, .int y1), (2, .int q.1), (3, .int q.2)] → W p l e (mRm 2 44) s m args below meth c H locs 0 0 Q (F0 m 4 ls []))) (hE52 : ∀ b, res = Sum.inr b → (∀ (H : Heap) (locs : List Loc) (ls : Array Slot), mR G σ H → va_S (mA G) s.heap H locs → lv_has ls 4 [(0, .ref (mo G)), (2, .int b)] → W p l e (mRm 2 44) s m args below meth c H locs 0 0 Q (F0 m 52 ls []))) : ∀ (H : Heap) (locs : List Loc) (ls : Array Slot), mR G σ H → va_S (mA G) s.heap H locs → lv_has ls 4 [(0, .ref (mo G)), (1, .int y1), (2, .int y2), (3, .int y3)] → W p l e (mRm 2 44) s m args below meth c H locs 0 0 Q (F0 m 41 ls [.int z0, .int z1]) := by
  replace hf : (if z1 ≤ z0 then some (Sum.inl (y2, y3 + (1 : Int32))) else some (Sum.inl (y3, y3 + (1 : Int32)))) = some res := hf
  obtain ⟨hx, hb, hml, hown, hts⟩ := S.1.1
  intro H locs ls hR hS hl
  refine lv_icmp_le (tgt := 46) hx hb dX4_branch_41 (by decide) (fun c_41 => ?_) (fun c_41 => ?_)
  · replace hf := o_t hf c_41
    refine lv_iinc (lv' := [(3, .int (y3 + (1 : Int32))), (0, .ref (mo G)), (1, .int y1), (2, .int y2)]) hx hb dX4_branch_46 hl (k := 3) rfl (m_inc (by decide)) (by decide) rfl (fun ls hl => ?_)
    refine lv_goto (tgt := 4) hx hb dX4_branch_49 (by decide) ?_
    exact hK _ (Option.some.inj hf).symm _ _ _ hR hS (lv_sub (l' := [(0, .ref (mo G)), (1, .int y1), (2, .int y2), (3, .int (y3 + (1 : Int32)))]) hl [1, 2, 3, 0] rfl)
  · replace hf := o_f hf c_41
    refine lv_iload_n hx hb dX4_branch_44 rfl (lv_at hl 3 rfl) ?_
    refine lv_istore_n (lv' := [(2, .int y3), (0, .ref (mo G)), (1, .int y1), (3, .int y3)]) hx hb dX4_branch_45 rfl hl (by decide) rfl (fun ls hl => ?_)
    refine lv_iinc (lv' := [(3, .int (y3 + (1 : Int32))), (2, .int y3), (0, .ref (mo G)), (1, .int y1)]) hx hb dX4_branch_46 hl (k := 3) rfl (m_inc (by decide)) (by decide) rfl (fun ls hl => ?_)
    refine lv_goto (tgt := 4) hx hb dX4_branch_49 (by decide) ?_
    exact hK _ (Option.some.inj hf).symm _ _ _ hR hS (lv_sub (l' := [(0, .ref (mo G)), (1, .int y1), (2, .int y3), (3, .int (y3 + (1 : Int32)))]) hl [2, 3, 1, 0] rfl)
set_option maxHeartbeats 4000000 in
set_option maxRecDepth 100000 in
theorem wbLX4_branch_4 {l : Launch} {G : mG} {p : Program} {e : Env} {s : State} {m : MethodId} {args : Array Value} {below : List Frame} {meth : Method} {c : Code} {Q : State → Prop} {y1 : Int32} {σ : mS} {q : Int32 × Int32} {res : (Int32 × Int32) ⊕ (Int32)} (S : mSt G p m c cX4_branch 4 s args meth (Option.some Jvm.ClassFile.FieldType.int)) (hf : LX4_branch_4 y1 σ q = some res) (hK : ∀ q, res = Sum.inl q → (∀ (H : Heap) (locs : List Loc) (ls : Array Slot), mR G σ H → va_S (mA G) s.heap H locs → lv_has ls 4 [(0, .ref (mo G)), (1, .int y1), (2, .int q.1), (3, .int q.2)] → W p l e (mRm 2 44) s m args below meth c H locs 0 0 Q (F0 m 4 ls []))) (hE52 : ∀ b, res = Sum.inr b → (∀ (H : Heap) (locs : List Loc) (ls : Array Slot), mR G σ H → va_S (mA G) s.heap H locs → lv_has ls 4 [(0, .ref (mo G)), (2, .int b)] → W p l e (mRm 2 44) s m args below meth c H locs 0 0 Q (F0 m 52 ls []))) : (∀ (H : Heap) (locs : List Loc) (ls : Array Slot), mR G σ H → va_S (mA G) s.heap H locs → lv_has ls 4 [(0, .ref (mo G)), (1, .int y1), (2, .int q.1), (3, .int q.2)] → W p l e (mRm 2 44) s m args below meth c H locs 0 0 Q (F0 m 4 ls [])) := by
  replace hf : (if (σ.1 0) ≤ q.2 then some (Sum.inr q.1) else if (fX4_has y1 q.2) = (0 : Int32) then some (Sum.inl (q.1, q.2 + (1 : Int32))) else (fX4_degree q.2 y1 σ).bind (fun v1 => if q.1 = (-1 : Int32) then JX4_branch_41 y1 q.1 q.2 (0 : Int32) v1 σ else (fX4_degree q.1 y1 σ).bind (fun v2 => JX4_branch_41 y1 q.1 q.2 v2 v1 σ))) = some res := hf
  obtain ⟨hx, hb, hml, hown, hts⟩ := S.1.1
  intro H locs ls hR hS hl
  refine lv_iload_n hx hb dX4_branch_4 rfl (lv_at hl 3 rfl) ?_
  refine lv_aload_n hx hb dX4_branch_5 rfl (lv_at hl 0 rfl) ?_
  refine m_geti (k := 0) S hR (by decide) (by decide) q2526 dX4_branch_6 ?_
  refine lv_icmp_ge (tgt := 52) hx hb dX4_branch_9 (by decide) (fun c_9 => ?_) (fun c_9 => ?_)
  · replace hf := o_t hf c_9
    exact hE52 _ (Option.some.inj hf).symm _ _ _ hR hS (lv_sub (l' := [(0, .ref (mo G)), (2, .int q.1)]) hl [0, 2] rfl)
  · replace hf := o_f hf c_9
    refine lv_iload_n hx hb dX4_branch_12 rfl (lv_at hl 1 rfl) ?_
    refine lv_iload_n hx hb dX4_branch_13 rfl (lv_at hl 3 rfl) ?_
    refine s_call (As := [.int y1, .int q.2]) (rest := []) S.1.1 (met_X4_has rfl) wi_X4_has q2750 ⟨rfl, rfl⟩ ⟨Nat.le_of_ble_eq_true rfl, Nat.le_of_ble_eq_true rfl⟩ rfl hl.1 rfl (Nat.le_of_ble_eq_true rfl) dX4_branch_14 ⟨Nat.zero_le _, Nat.zero_le _⟩ ?_
    refine lv_if_eq (tgt := 46) hx hb dX4_branch_17 (by decide) (fun c_17 => ?_) (fun c_17 => ?_)
    · replace hf := o_t hf c_17
      refine lv_iinc (lv' := [(3, .int (q.2 + (1 : Int32))), (0, .ref (mo G)), (1, .int y1), (2, .int q.1)]) hx hb dX4_branch_46 hl (k := 3) rfl (m_inc (by decide)) (by decide) rfl (fun ls hl => ?_)
      refine lv_goto (tgt := 4) hx hb dX4_branch_49 (by decide) ?_
      exact hK _ (Option.some.inj hf).symm _ _ _ hR hS (lv_sub (l' := [(0, .ref (mo G)), (1, .int y1), (2, .int q.1), (3, .int (q.2 + (1 : Int32)))]) hl [1, 2, 3, 0] rfl)
    · replace hf := o_f hf c_17
      refine lv_aload_n hx hb dX4_branch_20 rfl (lv_at hl 0 rfl) ?_
      refine lv_iload_n hx hb dX4_branch_21 rfl (lv_at hl 3 rfl) ?_
      refine lv_iload_n hx hb dX4_branch_22 rfl (lv_at hl 1 rfl) ?_
      refine k_bind hf (fun v1 hv1 hf => ?_)
      refine m_call (As := [.int q.2, .int y1]) (rest := []) S hR hS (met_X4_degree hv1) wi_X4_degree rfl q2869 ⟨rfl, rfl⟩ ⟨Nat.le_of_ble_eq_true rfl, Nat.le_of_ble_eq_true rfl⟩ rfl hl.1 rfl (Nat.le_of_ble_eq_true rfl) dX4_branch_23 (fun H locs hR hS => ?_)
      refine lv_iload_n hx hb dX4_branch_26 rfl (lv_at hl 2 rfl) ?_
      refine lv_iconst (v := -1) hx hb dX4_branch_27 (by decide) ?_
      refine lv_icmp_ne (tgt := 35) hx hb dX4_branch_28 (by decide) (fun c_28 => ?_) (fun c_28 => ?_)
      · replace hf := o_f hf c_28
        refine lv_aload_n hx hb dX4_branch_35 rfl (lv_at hl 0 rfl) ?_
        refine lv_iload_n hx hb dX4_branch_36 rfl (lv_at hl 2 rfl) ?_
        refine lv_iload_n hx hb dX4_branch_37 rfl (lv_at hl 1 rfl) ?_
        refine k_bind hf (fun v2 hv2 hf => ?_)
        refine m_call (As := [.int q.1, .int y1]) (rest := [.int v1]) S hR hS (met_X4_degree hv2) wi_X4_degree rfl q2869 ⟨rfl, rfl⟩ ⟨Nat.le_of_ble_eq_true rfl, Nat.le_of_ble_eq_true rfl⟩ rfl hl.1 rfl (Nat.le_of_ble_eq_true rfl) dX4_branch_38 (fun H locs hR hS => ?_)
        exact wJX4_branch_41 S hf hK hE52 _ _ _ hR hS hl
      · replace hf := o_t hf c_28
        refine lv_iconst (v := 0) hx hb dX4_branch_31 (by decide) ?_
        refine lv_goto (tgt := 41) hx hb dX4_branch_32 (by decide) ?_
        exact wJX4_branch_41 S hf hK hE52 _ _ _ hR hS hl
set_option maxHeartbeats 4000000 in
set_option maxRecDepth 100000 in
theorem wLX4_branch_4 {l : Launch} {G : mG} {p : Program} {e : Env} {s : State} {m : MethodId} {args : Array Value} {below : List Frame} {meth : Method} {c : Code} {Q : State → Prop} {y1 : Int32} {σ : mS} {q : Int32 × Int32} {res : Int32} (S : mSt G p m c cX4_branch 4 s args meth (Option.some Jvm.ClassFile.FieldType.int)) (h : lpw (LX4_branch_4 y1 σ) q = some res) (hE52 : ∀ b, res = b → (∀ (H : Heap) (locs : List Loc) (ls : Array Slot), mR G σ H → va_S (mA G) s.heap H locs → lv_has ls 4 [(0, .ref (mo G)), (2, .int b)] → W p l e (mRm 2 44) s m args below meth c H locs 0 0 Q (F0 m 52 ls []))) : (∀ (H : Heap) (locs : List Loc) (ls : Array Slot), mR G σ H → va_S (mA G) s.heap H locs → lv_has ls 4 [(0, .ref (mo G)), (1, .int y1), (2, .int q.1), (3, .int q.2)] → W p l e (mRm 2 44) s m args below meth c H locs 0 0 Q (F0 m 4 ls [])) :=
  lpw_go _ (fun q => (∀ (H : Heap) (locs : List Loc) (ls : Array Slot), mR G σ H → va_S (mA G) s.heap H locs → lv_has ls 4 [(0, .ref (mo G)), (1, .int y1), (2, .int q.1), (3, .int q.2)] → W p l e (mRm 2 44) s m args below meth c H locs 0 0 Q (F0 m 4 ls []))) (fun b0 => (∀ b, b0 = b → (∀ (H : Heap) (locs : List Loc) (ls : Array Slot), mR G σ H → va_S (mA G) s.heap H locs → lv_has ls 4 [(0, .ref (mo G)), (2, .int b)] → W p l e (mRm 2 44) s m args below meth c H locs 0 0 Q (F0 m 52 ls [])))) (fun q x hf hK hX => wbLX4_branch_4 S hf hK (fun b eb => (hX _ eb) b rfl)) q res h hE52
set_option maxHeartbeats 4000000 in
set_option maxRecDepth 100000 in
theorem met_X4_branch {l : Launch} {G : mG} {x1 : Int32} {σ : mS} {res : Int32} (hf : fX4_branch x1 σ = some res) : mMet l yX4_branch cX4_branch 4 (Option.some Jvm.ClassFile.FieldType.int) (mRm 2 44) G [.ref (mo G), .int x1] σ (some (.int res)) σ := by
  replace hf : ((lpw (LX4_branch_4 x1 σ) ((-1 : Int32), (0 : Int32))).bind (fun b3 => some b3)) = some res := hf
  refine m_start (by decide) rfl (Nat.le_of_ble_eq_true rfl) ?_
  intro p e s m args below meth c S hR hS ls hl
  obtain ⟨hx, hb, hml, hown, hts⟩ := S.1.1
  have hl : lv_has ls 4 [(0, .ref (mo G)), (1, .int x1)] := hl
  refine lv_iconst (v := -1) hx hb dX4_branch_0 (by decide) ?_
  refine lv_istore_n (lv' := [(2, .int (-1 : Int32)), (0, .ref (mo G)), (1, .int x1)]) hx hb dX4_branch_1 rfl hl (by decide) rfl (fun ls hl => ?_)
  refine lv_iconst (v := 0) hx hb dX4_branch_2 (by decide) ?_
  refine lv_istore_n (lv' := [(3, .int (0 : Int32)), (2, .int (-1 : Int32)), (0, .ref (mo G)), (1, .int x1)]) hx hb dX4_branch_3 rfl hl (by decide) rfl (fun ls hl => ?_)
  refine k_bind hf (fun b3 hb3 hf => ?_)
  refine wLX4_branch_4 S hb3 ?_ _ _ _ hR hS (lv_sub (l' := [(0, .ref (mo G)), (1, .int x1), (2, .int (-1 : Int32)), (3, .int (0 : Int32))]) hl [2, 3, 1, 0] rfl)
  · intro b eb; subst eb; intro H locs ls hR hS hl
    refine lv_iload_n hx hb dX4_branch_52 rfl (lv_at hl 1 rfl) ?_
    obtain rfl := Option.some.inj hf
    exact m_iret S hR hS rfl dX4_branch_53

noncomputable def JX4_searches_203 (rec : Int32 → Int32 → Int32 → Int32 → mS → Option (Int32 × mS)) (y1 : Int32) (y2 : Int32) (y3 : Int32) (y4 : Int32) (y7 : Int32) (y8 : Int32) (z0 : Int32) (σ : mS) : Option ((Int32 × mS) ⊕ ((Int32 × mS) ⊕ (mS))) :=
  (fX4_bits z0).bind (fun v7 => (rec (y1 &&& ((z0 ||| (ish (1 : Int32) y7)) ^^^ (-1 : Int32))) (y2 ||| z0) (y3 - v7) (y4 + (1 : Int32)) σ).bind (fun e8 => if e8.1 = (-1 : Int32) then some (Sum.inl (y8 + (1 : Int32), e8.2)) else some (Sum.inr (Sum.inl (e8.1, e8.2)))))
noncomputable def LX4_searches_172 (rec : Int32 → Int32 → Int32 → Int32 → mS → Option (Int32 × mS)) (y1 : Int32) (y2 : Int32) (y3 : Int32) (y4 : Int32) (y7 : Int32) (q : Int32 × mS) : Option ((Int32 × mS) ⊕ ((Int32 × mS) ⊕ (mS))) :=
  if (2 : Int32) ≤ q.1 then some (Sum.inr (Sum.inr q.2)) else if q.1 = (irm y4 (2 : Int32)) then JX4_searches_203 rec y1 y2 y3 y4 y7 q.1 (ish (1 : Int32) y7) q.2 else (mald q.2 4 y7).bind (fun v6 => JX4_searches_203 rec y1 y2 y3 y4 y7 q.1 (v6 &&& y1) q.2)
noncomputable def JX4_searches_152 (rec : Int32 → Int32 → Int32 → Int32 → mS → Option (Int32 × mS)) (y1 : Int32) (y2 : Int32) (y3 : Int32) (y4 : Int32) (y6 : Int32) (y7 : Int32) (σ : mS) : Option (Int32 × mS) :=
  if y7 = (-1 : Int32) then if y6 = (0 : Int32) then some (y2, σ) else some ((-1 : Int32), σ) else (lpw (LX4_searches_172 rec y1 y2 y3 y4 y7) ((0 : Int32), σ)).bind ((fun e => Sum.elim (fun b10 => some (b10.1, b10.2)) (fun b11 => some ((-1 : Int32), b11)) e))
noncomputable def JX4_searches_137 (rec : Int32 → Int32 → Int32 → Int32 → mS → Option (Int32 × mS)) (y1 : Int32) (y2 : Int32) (y3 : Int32) (y4 : Int32) (y6 : Int32) (y7 : Int32) (σ : mS) : Option (Int32 × mS) :=
  if y6 = (0 : Int32) then JX4_searches_152 rec y1 y2 y3 y4 y6 y7 σ else (mput σ 17 ((σ.1 17) + (1 : Int32))).bind (fun σ12 => JX4_searches_152 rec y1 y2 y3 y4 y6 y7 σ12)
noncomputable def JX4_searches_88 (rec : Int32 → Int32 → Int32 → Int32 → mS → Option (Int32 × mS)) (y1 : Int32) (y2 : Int32) (y3 : Int32) (y4 : Int32) (y5 : Int32) (y6 : Int32) (y7 : Int32) (σ : mS) : Option (Int32 × mS) :=
  if y5 = (σ.1 19) then (mast σ 20 (0 : Int32) y7).bind (fun σ13 => (mast σ13 20 (1 : Int32) y1).bind (fun σ14 => (mast σ14 20 (2 : Int32) y2).bind (fun σ15 => (mast σ15 20 (3 : Int32) (y3 + (20 : Int32))).bind (fun σ16 => (mast σ16 20 (4 : Int32) y4).bind (fun σ17 => JX4_searches_137 rec y1 y2 y3 y4 y6 y7 σ17))))) else JX4_searches_137 rec y1 y2 y3 y4 y6 y7 σ
noncomputable def JX4_searches_70 (rec : Int32 → Int32 → Int32 → Int32 → mS → Option (Int32 × mS)) (y1 : Int32) (y2 : Int32) (y3 : Int32) (y4 : Int32) (y5 : Int32) (y6 : Int32) (z0 : Int32) (σ : mS) : Option (Int32 × mS) :=
  if (60 : Int32) ≤ y5 then JX4_searches_88 rec y1 y2 y3 y4 y5 y6 z0 σ else (mast σ 21 y5 z0).bind (fun σ18 => JX4_searches_88 rec y1 y2 y3 y4 y5 y6 z0 σ18)
noncomputable def JX4_searches_54 (rec : Int32 → Int32 → Int32 → Int32 → mS → Option (Int32 × mS)) (y1 : Int32) (y2 : Int32) (y3 : Int32) (y4 : Int32) (y5 : Int32) (z0 : Int32) (σ : mS) : Option (Int32 × mS) :=
  if z0 = (0 : Int32) then (fX4_branch y1 σ).bind (fun v5 => JX4_searches_70 rec y1 y2 y3 y4 y5 z0 v5 σ) else JX4_searches_70 rec y1 y2 y3 y4 y5 z0 (-1 : Int32) σ
noncomputable def JX4_searches_35 (rec : Int32 → Int32 → Int32 → Int32 → mS → Option (Int32 × mS)) (y1 : Int32) (y2 : Int32) (y3 : Int32) (y4 : Int32) (y5 : Int32) (z0 : Int32) (σ : mS) : Option (Int32 × mS) :=
  (mput σ 18 z0).bind (fun σ3 => (fX4_leastHalves y1 σ3).bind (fun e4 => if e4.1 ≤ ((2 : Int32) * y3) then JX4_searches_54 rec y1 y2 y3 y4 y5 (0 : Int32) e4.2 else JX4_searches_54 rec y1 y2 y3 y4 y5 (1 : Int32) e4.2))
noncomputable def BX4_searches (rec : Int32 → Int32 → Int32 → Int32 → mS → Option (Int32 × mS)) (x1 : Int32) (x2 : Int32) (x3 : Int32) (x4 : Int32) (σ : mS) : Option (Int32 × mS) :=
  (some (σ.1 16)).bind (fun v1 => (mput σ 16 ((σ.1 16) + (1 : Int32))).bind (fun σ2 => if x4 ≤ (σ2.1 18) then JX4_searches_35 rec x1 x2 x3 x4 v1 (σ2.1 18) σ2 else JX4_searches_35 rec x1 x2 x3 x4 v1 x4 σ2))
noncomputable def fX4_searches : Nat → Int32 → Int32 → Int32 → Int32 → mS → Option (Int32 × mS)
  | 0 => fun _ _ _ _ _ => none
  | d + 1 => BX4_searches (fX4_searches d)
theorem wi_X4_searches : wInfV yX4_searches cX4_searches 11 (Option.some Jvm.ClassFile.FieldType.int) 4 := ⟨q2910, qs85, q116, q2911, (by decide +kernel), (by decide +kernel), (by decide +kernel)⟩
set_option maxHeartbeats 4000000 in
set_option maxRecDepth 100000 in
theorem wJX4_searches_203 {l : Launch} {G : mG} {p : Program} {e : Env} {s : State} {m : MethodId} {args : Array Value} {below : List Frame} {meth : Method} {c : Code} {d : Nat} {rec : Int32 → Int32 → Int32 → Int32 → mS → Option (Int32 × mS)} {Q : State → Prop} {y1 : Int32} {y2 : Int32} {y3 : Int32} {y4 : Int32} {y7 : Int32} {y8 : Int32} {z0 : Int32} {σ : mS} {res : (Int32 × mS) ⊕ ((Int32 × mS) ⊕ (mS))} (S : mSt G p m c cX4_searches 11 s args meth (Option.some Jvm.ClassFile.FieldType.int)) (hrec : ∀ {x1 : Int32} {x2 : Int32} {x3 : Int32} {x4 : Int32} {σ : mS} {res : Int32 × mS}, rec x1 x2 x3 x4 σ = some res → mMet l yX4_searches cX4_searches 11 (Option.some Jvm.ClassFile.FieldType.int) (mRm (d + 19) (30 * (d) + 435)) G [.ref (mo G), .int x1, .int x2, .int x3, .int x4] σ (some (.int res.1)) res.2) (hf : JX4_searches_203 rec y1 y2 y3 y4 y7 y8 z0 σ = some res) (hK : ∀ q, res = Sum.inl q → (∀ (H : Heap) (locs : List Loc) (ls : Array Slot), mR G q.2 H → va_S (mA G) s.heap H locs → lv_has ls 11 [(0, .ref (mo G)), (1, .int y1), (2, .int y2), (3, .int y3), (4, .int y4), (7, .int y7), (8, .int q.1)] → W p l e (mRm (d + 1 + 19) (30 * (d + 1) + 435)) s m args below meth c H locs 0 0 Q (F0 m 172 ls []))) (hE243 : ∀ b, res = Sum.inr (Sum.inl b) → (∀ (H : Heap) (locs : List Loc) (ls : Array Slot), mR G b.2 H → va_S (mA G) s.heap H locs → lv_has ls 11 [(0, .ref (mo G)), (10, .int b.1)] → W p l e (mRm (d + 1 + 19) (30 * (d + 1) + 435)) s m args below meth c H locs 0 0 Q (F0 m 243 ls []))) (hE252 : ∀ b, res = Sum.inr (Sum.inr b) → (∀ (H : Heap) (locs : List Loc) (ls : Array Slot), mR G b H → va_S (mA G) s.heap H locs → lv_has ls 11 [(0, .ref (mo G))] → W p l e (mRm (d + 1 + 19) (30 * (d + 1) + 435)) s m args below meth c H locs 0 0 Q (F0 m 252 ls []))) : ∀ (H : Heap) (locs : List Loc) (ls : Array Slot), mR G σ H → va_S (mA G) s.heap H locs → lv_has ls 11 [(0, .ref (mo G)), (1, .int y1), (2, .int y2), (3, .int y3), (4, .int y4), (7, .int y7), (8, .int y8)] → W p l e (mRm (d + 1 + 19) (30 * (d + 1) + 435)) s m args below meth c H locs 0 0 Q (F0 m 203 ls [.int z0]) := by
  replace hf : ((fX4_bits z0).bind (fun v7 => (rec (y1 &&& ((z0 ||| (ish (1 : Int32) y7)) ^^^ (-1 : Int32))) (y2 ||| z0) (y3 - v7) (y4 + (1 : Int32)) σ).bind (fun e8 => if e8.1 = (-1 : Int32) then some (Sum.inl (y8 + (1 : Int32), e8.2)) else some (Sum.inr (Sum.inl (e8.1, e8.2)))))) = some res := hf
  obtain ⟨hx, hb, hml, hown, hts⟩ := S.1.1
  intro H locs ls hR hS hl
  refine lv_istore (lv' := [(9, .int z0), (0, .ref (mo G)), (1, .int y1), (2, .int y2), (3, .int y3), (4, .int y4), (7, .int y7), (8, .int y8)]) hx hb dX4_searches_203 hl (by decide) rfl (fun ls hl => ?_)
  refine lv_aload_n hx hb dX4_searches_205 rfl (lv_at hl 1 rfl) ?_
  refine lv_iload_n hx hb dX4_searches_206 rfl (lv_at hl 2 rfl) ?_
  refine lv_iload hx hb dX4_searches_207 (lv_at hl 0 rfl) ?_
  refine lv_iconst (v := 1) hx hb dX4_searches_209 (by decide) ?_
  refine lv_iload hx hb dX4_searches_210 (lv_at hl 6 rfl) ?_
  refine lv_ishl hx hb dX4_searches_212 ?_
  refine lv_ior hx hb dX4_searches_213 ?_
  refine lv_iconst (v := -1) hx hb dX4_searches_214 (by decide) ?_
  refine lv_ixor hx hb dX4_searches_215 ?_
  refine lv_iand hx hb dX4_searches_216 ?_
  refine lv_iload_n hx hb dX4_searches_217 rfl (lv_at hl 3 rfl) ?_
  refine lv_iload hx hb dX4_searches_218 (lv_at hl 0 rfl) ?_
  refine lv_ior hx hb dX4_searches_220 ?_
  refine lv_iload_n hx hb dX4_searches_221 rfl (lv_at hl 4 rfl) ?_
  refine lv_iload hx hb dX4_searches_222 (lv_at hl 0 rfl) ?_
  refine k_bind hf (fun v7 hv7 hf => ?_)
  refine s_call (As := [.int z0]) (rest := [.int y3, .int (y2 ||| z0), .int (y1 &&& ((z0 ||| (ish (1 : Int32) y7)) ^^^ (-1 : Int32))), .ref (mo G)]) S.1.1 (met_X4_bits hv7) wi_X4_bits q2712 ⟨rfl, rfl⟩ ⟨by simp only [mRm]; omega, by simp only [mRm]; omega⟩ rfl hl.1 rfl (Nat.le_of_ble_eq_true rfl) dX4_searches_224 ⟨Nat.zero_le _, Nat.zero_le _⟩ ?_
  refine lv_isub hx hb dX4_searches_227 ?_
  refine lv_iload hx hb dX4_searches_228 (lv_at hl 5 rfl) ?_
  refine lv_iconst (v := 1) hx hb dX4_searches_230 (by decide) ?_
  refine lv_iadd hx hb dX4_searches_231 ?_
  refine k_bind hf (fun e8 he8 hf => ?_)
  refine m_call (As := [.int (y1 &&& ((z0 ||| (ish (1 : Int32) y7)) ^^^ (-1 : Int32))), .int (y2 ||| z0), .int (y3 - v7), .int (y4 + (1 : Int32))]) (rest := []) S hR hS (hrec he8) wi_X4_searches rfl q2908 ⟨rfl, rfl⟩ ⟨by simp only [mRm]; omega, by simp only [mRm]; omega⟩ rfl hl.1 rfl (Nat.le_of_ble_eq_true rfl) dX4_searches_232 (fun H locs hR hS => ?_)
  refine lv_istore (lv' := [(10, .int e8.1), (9, .int z0), (0, .ref (mo G)), (1, .int y1), (2, .int y2), (3, .int y3), (4, .int y4), (7, .int y7), (8, .int y8)]) hx hb dX4_searches_235 hl (by decide) rfl (fun ls hl => ?_)
  refine lv_iload hx hb dX4_searches_237 (lv_at hl 0 rfl) ?_
  refine lv_iconst (v := -1) hx hb dX4_searches_239 (by decide) ?_
  refine lv_icmp_eq (tgt := 246) hx hb dX4_searches_240 (by decide) (fun c_240 => ?_) (fun c_240 => ?_)
  · replace hf := o_t hf c_240
    refine lv_iinc (lv' := [(8, .int (y8 + (1 : Int32))), (10, .int e8.1), (9, .int z0), (0, .ref (mo G)), (1, .int y1), (2, .int y2), (3, .int y3), (4, .int y4), (7, .int y7)]) hx hb dX4_searches_246 hl (k := 8) rfl (m_inc (by decide)) (by decide) rfl (fun ls hl => ?_)
    refine lv_goto (tgt := 172) hx hb dX4_searches_249 (by decide) ?_
    exact hK _ (Option.some.inj hf).symm _ _ _ hR hS (lv_sub (l' := [(0, .ref (mo G)), (1, .int y1), (2, .int y2), (3, .int y3), (4, .int y4), (7, .int y7), (8, .int (y8 + (1 : Int32)))]) hl [3, 4, 5, 6, 7, 8, 0] rfl)
  · replace hf := o_f hf c_240
    exact hE243 _ (Option.some.inj hf).symm _ _ _ hR hS (lv_sub (l' := [(0, .ref (mo G)), (10, .int e8.1)]) hl [2, 0] rfl)
set_option maxHeartbeats 4000000 in
set_option maxRecDepth 100000 in
theorem wbLX4_searches_172 {l : Launch} {G : mG} {p : Program} {e : Env} {s : State} {m : MethodId} {args : Array Value} {below : List Frame} {meth : Method} {c : Code} {d : Nat} {rec : Int32 → Int32 → Int32 → Int32 → mS → Option (Int32 × mS)} {Q : State → Prop} {y1 : Int32} {y2 : Int32} {y3 : Int32} {y4 : Int32} {y7 : Int32} {q : Int32 × mS} {res : (Int32 × mS) ⊕ ((Int32 × mS) ⊕ (mS))} (S : mSt G p m c cX4_searches 11 s args meth (Option.some Jvm.ClassFile.FieldType.int)) (hrec : ∀ {x1 : Int32} {x2 : Int32} {x3 : Int32} {x4 : Int32} {σ : mS} {res : Int32 × mS}, rec x1 x2 x3 x4 σ = some res → mMet l yX4_searches cX4_searches 11 (Option.some Jvm.ClassFile.FieldType.int) (mRm (d + 19) (30 * (d) + 435)) G [.ref (mo G), .int x1, .int x2, .int x3, .int x4] σ (some (.int res.1)) res.2) (hf : LX4_searches_172 rec y1 y2 y3 y4 y7 q = some res) (hK : ∀ q, res = Sum.inl q → (∀ (H : Heap) (locs : List Loc) (ls : Array Slot), mR G q.2 H → va_S (mA G) s.heap H locs → lv_has ls 11 [(0, .ref (mo G)), (1, .int y1), (2, .int y2), (3, .int y3), (4, .int y4), (7, .int y7), (8, .int q.1)] → W p l e (mRm (d + 1 + 19) (30 * (d + 1) + 435)) s m args below meth c H locs 0 0 Q (F0 m 172 ls []))) (hE243 : ∀ b, res = Sum.inr (Sum.inl b) → (∀ (H : Heap) (locs : List Loc) (ls : Array Slot), mR G b.2 H → va_S (mA G) s.heap H locs → lv_has ls 11 [(0, .ref (mo G)), (10, .int b.1)] → W p l e (mRm (d + 1 + 19) (30 * (d + 1) + 435)) s m args below meth c H locs 0 0 Q (F0 m 243 ls []))) (hE252 : ∀ b, res = Sum.inr (Sum.inr b) → (∀ (H : Heap) (locs : List Loc) (ls : Array Slot), mR G b H → va_S (mA G) s.heap H locs → lv_has ls 11 [(0, .ref (mo G))] → W p l e (mRm (d + 1 + 19) (30 * (d + 1) + 435)) s m args below meth c H locs 0 0 Q (F0 m 252 ls []))) : (∀ (H : Heap) (locs : List Loc) (ls : Array Slot), mR G q.2 H → va_S (mA G) s.heap H locs → lv_has ls 11 [(0, .ref (mo G)), (1, .int y1), (2, .int y2), (3, .int y3), (4, .int y4), (7, .int y7), (8, .int q.1)] → W p l e (mRm (d + 1 + 19) (30 * (d + 1) + 435)) s m args below meth c H locs 0 0 Q (F0 m 172 ls [])) := by
  replace hf : (if (2 : Int32) ≤ q.1 then some (Sum.inr (Sum.inr q.2)) else if q.1 = (irm y4 (2 : Int32)) then JX4_searches_203 rec y1 y2 y3 y4 y7 q.1 (ish (1 : Int32) y7) q.2 else (mald q.2 4 y7).bind (fun v6 => JX4_searches_203 rec y1 y2 y3 y4 y7 q.1 (v6 &&& y1) q.2)) = some res := hf
  obtain ⟨hx, hb, hml, hown, hts⟩ := S.1.1
  intro H locs ls hR hS hl
  refine lv_iload hx hb dX4_searches_172 (lv_at hl 6 rfl) ?_
  refine lv_iconst (v := 2) hx hb dX4_searches_174 (by decide) ?_
  refine lv_icmp_ge (tgt := 252) hx hb dX4_searches_175 (by decide) (fun c_175 => ?_) (fun c_175 => ?_)
  · replace hf := o_t hf c_175
    exact hE252 _ (Option.some.inj hf).symm _ _ _ hR hS (lv_sub (l' := [(0, .ref (mo G))]) hl [0] rfl)
  · replace hf := o_f hf c_175
    refine lv_iload hx hb dX4_searches_178 (lv_at hl 6 rfl) ?_
    refine lv_iload hx hb dX4_searches_180 (lv_at hl 4 rfl) ?_
    refine lv_iconst (v := 2) hx hb dX4_searches_182 (by decide) ?_
    refine lv_irem hx hb dX4_searches_183 (by decide) ?_
    refine lv_icmp_ne (tgt := 194) hx hb dX4_searches_184 (by decide) (fun c_184 => ?_) (fun c_184 => ?_)
    · replace hf := o_f hf c_184
      refine lv_aload_n hx hb dX4_searches_194 rfl (lv_at hl 0 rfl) ?_
      refine m_geta (k := 4) S hR (by decide) (by decide) q2530 dX4_searches_195 ?_
      refine lv_iload hx hb dX4_searches_198 (lv_at hl 5 rfl) ?_
      refine k_bind hf (fun v6 hv6 hf => ?_)
      refine m_iald S hR hv6 dX4_searches_200 ?_
      refine lv_iload_n hx hb dX4_searches_201 rfl (lv_at hl 1 rfl) ?_
      refine lv_iand hx hb dX4_searches_202 ?_
      exact wJX4_searches_203 S hrec hf hK hE243 hE252 _ _ _ hR hS hl
    · replace hf := o_t hf c_184
      refine lv_iconst (v := 1) hx hb dX4_searches_187 (by decide) ?_
      refine lv_iload hx hb dX4_searches_188 (lv_at hl 5 rfl) ?_
      refine lv_ishl hx hb dX4_searches_190 ?_
      refine lv_goto (tgt := 203) hx hb dX4_searches_191 (by decide) ?_
      exact wJX4_searches_203 S hrec hf hK hE243 hE252 _ _ _ hR hS hl
set_option maxHeartbeats 4000000 in
set_option maxRecDepth 100000 in
theorem wLX4_searches_172 {l : Launch} {G : mG} {p : Program} {e : Env} {s : State} {m : MethodId} {args : Array Value} {below : List Frame} {meth : Method} {c : Code} {d : Nat} {rec : Int32 → Int32 → Int32 → Int32 → mS → Option (Int32 × mS)} {Q : State → Prop} {y1 : Int32} {y2 : Int32} {y3 : Int32} {y4 : Int32} {y7 : Int32} {q : Int32 × mS} {res : (Int32 × mS) ⊕ (mS)} (S : mSt G p m c cX4_searches 11 s args meth (Option.some Jvm.ClassFile.FieldType.int)) (hrec : ∀ {x1 : Int32} {x2 : Int32} {x3 : Int32} {x4 : Int32} {σ : mS} {res : Int32 × mS}, rec x1 x2 x3 x4 σ = some res → mMet l yX4_searches cX4_searches 11 (Option.some Jvm.ClassFile.FieldType.int) (mRm (d + 19) (30 * (d) + 435)) G [.ref (mo G), .int x1, .int x2, .int x3, .int x4] σ (some (.int res.1)) res.2) (h : lpw (LX4_searches_172 rec y1 y2 y3 y4 y7) q = some res) (hE243 : ∀ b, res = (Sum.inl b) → (∀ (H : Heap) (locs : List Loc) (ls : Array Slot), mR G b.2 H → va_S (mA G) s.heap H locs → lv_has ls 11 [(0, .ref (mo G)), (10, .int b.1)] → W p l e (mRm (d + 1 + 19) (30 * (d + 1) + 435)) s m args below meth c H locs 0 0 Q (F0 m 243 ls []))) (hE252 : ∀ b, res = (Sum.inr b) → (∀ (H : Heap) (locs : List Loc) (ls : Array Slot), mR G b H → va_S (mA G) s.heap H locs → lv_has ls 11 [(0, .ref (mo G))] → W p l e (mRm (d + 1 + 19) (30 * (d + 1) + 435)) s m args below meth c H locs 0 0 Q (F0 m 252 ls []))) : (∀ (H : Heap) (locs : List Loc) (ls : Array Slot), mR G q.2 H → va_S (mA G) s.heap H locs → lv_has ls 11 [(0, .ref (mo G)), (1, .int y1), (2, .int y2), (3, .int y3), (4, .int y4), (7, .int y7), (8, .int q.1)] → W p l e (mRm (d + 1 + 19) (30 * (d + 1) + 435)) s m args below meth c H locs 0 0 Q (F0 m 172 ls [])) :=
  lpw_go _ (fun q => (∀ (H : Heap) (locs : List Loc) (ls : Array Slot), mR G q.2 H → va_S (mA G) s.heap H locs → lv_has ls 11 [(0, .ref (mo G)), (1, .int y1), (2, .int y2), (3, .int y3), (4, .int y4), (7, .int y7), (8, .int q.1)] → W p l e (mRm (d + 1 + 19) (30 * (d + 1) + 435)) s m args below meth c H locs 0 0 Q (F0 m 172 ls []))) (fun b0 => (∀ b, b0 = (Sum.inl b) → (∀ (H : Heap) (locs : List Loc) (ls : Array Slot), mR G b.2 H → va_S (mA G) s.heap H locs → lv_has ls 11 [(0, .ref (mo G)), (10, .int b.1)] → W p l e (mRm (d + 1 + 19) (30 * (d + 1) + 435)) s m args below meth c H locs 0 0 Q (F0 m 243 ls []))) ∧ (∀ b, b0 = (Sum.inr b) → (∀ (H : Heap) (locs : List Loc) (ls : Array Slot), mR G b H → va_S (mA G) s.heap H locs → lv_has ls 11 [(0, .ref (mo G))] → W p l e (mRm (d + 1 + 19) (30 * (d + 1) + 435)) s m args below meth c H locs 0 0 Q (F0 m 252 ls [])))) (fun q x hf hK hX => wbLX4_searches_172 S hrec hf hK (fun b eb => (hX _ eb).1 b rfl) (fun b eb => (hX _ eb).2 b rfl)) q res h ⟨hE243, hE252⟩
set_option maxHeartbeats 4000000 in
set_option maxRecDepth 100000 in
theorem wJX4_searches_152 {l : Launch} {G : mG} {p : Program} {e : Env} {s : State} {m : MethodId} {args : Array Value} {below : List Frame} {meth : Method} {c : Code} {d : Nat} {rec : Int32 → Int32 → Int32 → Int32 → mS → Option (Int32 × mS)} {y1 : Int32} {y2 : Int32} {y3 : Int32} {y4 : Int32} {y6 : Int32} {y7 : Int32} {σ : mS} {res : Int32 × mS} (S : mSt G p m c cX4_searches 11 s args meth (Option.some Jvm.ClassFile.FieldType.int)) (hrec : ∀ {x1 : Int32} {x2 : Int32} {x3 : Int32} {x4 : Int32} {σ : mS} {res : Int32 × mS}, rec x1 x2 x3 x4 σ = some res → mMet l yX4_searches cX4_searches 11 (Option.some Jvm.ClassFile.FieldType.int) (mRm (d + 19) (30 * (d) + 435)) G [.ref (mo G), .int x1, .int x2, .int x3, .int x4] σ (some (.int res.1)) res.2) (hf : JX4_searches_152 rec y1 y2 y3 y4 y6 y7 σ = some res) : ∀ (H : Heap) (locs : List Loc) (ls : Array Slot), mR G σ H → va_S (mA G) s.heap H locs → lv_has ls 11 [(0, .ref (mo G)), (1, .int y1), (2, .int y2), (3, .int y3), (4, .int y4), (6, .int y6), (7, .int y7)] → W p l e (mRm (d + 1 + 19) (30 * (d + 1) + 435)) s m args below meth c H locs 0 0 (MQ below (mQ G (some (.int res.1)) res.2) args s 0 0 (mA G)) (F0 m 152 ls []) := by
  replace hf : (if y7 = (-1 : Int32) then if y6 = (0 : Int32) then some (y2, σ) else some ((-1 : Int32), σ) else (lpw (LX4_searches_172 rec y1 y2 y3 y4 y7) ((0 : Int32), σ)).bind ((fun e => Sum.elim (fun b10 => some (b10.1, b10.2)) (fun b11 => some ((-1 : Int32), b11)) e))) = some res := hf
  obtain ⟨hx, hb, hml, hown, hts⟩ := S.1.1
  intro H locs ls hR hS hl
  refine lv_iload hx hb dX4_searches_152 (lv_at hl 6 rfl) ?_
  refine lv_iconst (v := -1) hx hb dX4_searches_154 (by decide) ?_
  refine lv_icmp_ne (tgt := 169) hx hb dX4_searches_155 (by decide) (fun c_155 => ?_) (fun c_155 => ?_)
  · replace hf := o_f hf c_155
    refine lv_iconst (v := 0) hx hb dX4_searches_169 (by decide) ?_
    refine lv_istore (lv' := [(8, .int (0 : Int32)), (0, .ref (mo G)), (1, .int y1), (2, .int y2), (3, .int y3), (4, .int y4), (6, .int y6), (7, .int y7)]) hx hb dX4_searches_170 hl (by decide) rfl (fun ls hl => ?_)
    refine k_bind hf (fun b9 hb9 hf => ?_)
    refine wLX4_searches_172 S hrec hb9 ?_ ?_ _ _ _ hR hS (lv_sub (l' := [(0, .ref (mo G)), (1, .int y1), (2, .int y2), (3, .int y3), (4, .int y4), (7, .int y7), (8, .int (0 : Int32))]) hl [1, 2, 3, 4, 5, 7, 0] rfl)
    · intro b10 eb; subst eb; intro H locs ls hR hS hl
      replace hf := o_l hf
      refine lv_iload hx hb dX4_searches_243 (lv_at hl 1 rfl) ?_
      obtain rfl := Option.some.inj hf
      exact m_iret S hR hS rfl dX4_searches_245
    · intro b11 eb; subst eb; intro H locs ls hR hS hl
      replace hf := o_r hf
      refine lv_iconst (v := -1) hx hb dX4_searches_252 (by decide) ?_
      obtain rfl := Option.some.inj hf
      exact m_iret S hR hS rfl dX4_searches_253
  · replace hf := o_t hf c_155
    refine lv_iload hx hb dX4_searches_158 (lv_at hl 5 rfl) ?_
    refine lv_if_eq (tgt := 167) hx hb dX4_searches_160 (by decide) (fun c_160 => ?_) (fun c_160 => ?_)
    · replace hf := o_t hf c_160
      refine lv_iload_n hx hb dX4_searches_167 rfl (lv_at hl 2 rfl) ?_
      obtain rfl := Option.some.inj hf
      exact m_iret S hR hS rfl dX4_searches_168
    · replace hf := o_f hf c_160
      refine lv_iconst (v := -1) hx hb dX4_searches_163 (by decide) ?_
      refine lv_goto (tgt := 168) hx hb dX4_searches_164 (by decide) ?_
      obtain rfl := Option.some.inj hf
      exact m_iret S hR hS rfl dX4_searches_168
set_option maxHeartbeats 4000000 in
set_option maxRecDepth 100000 in
theorem wJX4_searches_137 {l : Launch} {G : mG} {p : Program} {e : Env} {s : State} {m : MethodId} {args : Array Value} {below : List Frame} {meth : Method} {c : Code} {d : Nat} {rec : Int32 → Int32 → Int32 → Int32 → mS → Option (Int32 × mS)} {y1 : Int32} {y2 : Int32} {y3 : Int32} {y4 : Int32} {y6 : Int32} {y7 : Int32} {σ : mS} {res : Int32 × mS} (S : mSt G p m c cX4_searches 11 s args meth (Option.some Jvm.ClassFile.FieldType.int)) (hrec : ∀ {x1 : Int32} {x2 : Int32} {x3 : Int32} {x4 : Int32} {σ : mS} {res : Int32 × mS}, rec x1 x2 x3 x4 σ = some res → mMet l yX4_searches cX4_searches 11 (Option.some Jvm.ClassFile.FieldType.int) (mRm (d + 19) (30 * (d) + 435)) G [.ref (mo G), .int x1, .int x2, .int x3, .int x4] σ (some (.int res.1)) res.2) (hf : JX4_searches_137 rec y1 y2 y3 y4 y6 y7 σ = some res) : ∀ (H : Heap) (locs : List Loc) (ls : Array Slot), mR G σ H → va_S (mA G) s.heap H locs → lv_has ls 11 [(0, .ref (mo G)), (1, .int y1), (2, .int y2), (3, .int y3), (4, .int y4), (6, .int y6), (7, .int y7)] → W p l e (mRm (d + 1 + 19) (30 * (d + 1) + 435)) s m args below meth c H locs 0 0 (MQ below (mQ G (some (.int res.1)) res.2) args s 0 0 (mA G)) (F0 m 137 ls []) := by
  replace hf : (if y6 = (0 : Int32) then JX4_searches_152 rec y1 y2 y3 y4 y6 y7 σ else (mput σ 17 ((σ.1 17) + (1 : Int32))).bind (fun σ12 => JX4_searches_152 rec y1 y2 y3 y4 y6 y7 σ12)) = some res := hf
  obtain ⟨hx, hb, hml, hown, hts⟩ := S.1.1
  intro H locs ls hR hS hl
  refine lv_iload hx hb dX4_searches_137 (lv_at hl 5 rfl) ?_
  refine lv_if_eq (tgt := 152) hx hb dX4_searches_139 (by decide) (fun c_139 => ?_) (fun c_139 => ?_)
  · replace hf := o_t hf c_139
    exact wJX4_searches_152 S hrec hf _ _ _ hR hS hl
  · replace hf := o_f hf c_139
    refine lv_aload_n hx hb dX4_searches_142 rfl (lv_at hl 0 rfl) ?_
    refine lv_dup hx hb dX4_searches_143 rfl ?_
    refine m_geti (k := 17) S hR (by decide) (by decide) q2543 dX4_searches_144 ?_
    refine lv_iconst (v := 1) hx hb dX4_searches_147 (by decide) ?_
    refine lv_iadd hx hb dX4_searches_148 ?_
    refine k_bind hf (fun σ12 hσ12 hf => ?_)
    refine m_puti (k := 17) S hR hS hσ12 (by decide) (by decide) rfl rfl rfl rfl q2543 dX4_searches_149 (fun H locs hR hS => ?_)
    exact wJX4_searches_152 S hrec hf _ _ _ hR hS hl
set_option maxHeartbeats 4000000 in
set_option maxRecDepth 100000 in
theorem wJX4_searches_88 {l : Launch} {G : mG} {p : Program} {e : Env} {s : State} {m : MethodId} {args : Array Value} {below : List Frame} {meth : Method} {c : Code} {d : Nat} {rec : Int32 → Int32 → Int32 → Int32 → mS → Option (Int32 × mS)} {y1 : Int32} {y2 : Int32} {y3 : Int32} {y4 : Int32} {y5 : Int32} {y6 : Int32} {y7 : Int32} {σ : mS} {res : Int32 × mS} (S : mSt G p m c cX4_searches 11 s args meth (Option.some Jvm.ClassFile.FieldType.int)) (hrec : ∀ {x1 : Int32} {x2 : Int32} {x3 : Int32} {x4 : Int32} {σ : mS} {res : Int32 × mS}, rec x1 x2 x3 x4 σ = some res → mMet l yX4_searches cX4_searches 11 (Option.some Jvm.ClassFile.FieldType.int) (mRm (d + 19) (30 * (d) + 435)) G [.ref (mo G), .int x1, .int x2, .int x3, .int x4] σ (some (.int res.1)) res.2) (hf : JX4_searches_88 rec y1 y2 y3 y4 y5 y6 y7 σ = some res) : ∀ (H : Heap) (locs : List Loc) (ls : Array Slot), mR G σ H → va_S (mA G) s.heap H locs → lv_has ls 11 [(0, .ref (mo G)), (1, .int y1), (2, .int y2), (3, .int y3), (4, .int y4), (5, .int y5), (6, .int y6), (7, .int y7)] → W p l e (mRm (d + 1 + 19) (30 * (d + 1) + 435)) s m args below meth c H locs 0 0 (MQ below (mQ G (some (.int res.1)) res.2) args s 0 0 (mA G)) (F0 m 88 ls []) := by
  replace hf : (if y5 = (σ.1 19) then (mast σ 20 (0 : Int32) y7).bind (fun σ13 => (mast σ13 20 (1 : Int32) y1).bind (fun σ14 => (mast σ14 20 (2 : Int32) y2).bind (fun σ15 => (mast σ15 20 (3 : Int32) (y3 + (20 : Int32))).bind (fun σ16 => (mast σ16 20 (4 : Int32) y4).bind (fun σ17 => JX4_searches_137 rec y1 y2 y3 y4 y6 y7 σ17))))) else JX4_searches_137 rec y1 y2 y3 y4 y6 y7 σ) = some res := hf
  obtain ⟨hx, hb, hml, hown, hts⟩ := S.1.1
  intro H locs ls hR hS hl
  refine lv_iload hx hb dX4_searches_88 (lv_at hl 5 rfl) ?_
  refine lv_aload_n hx hb dX4_searches_90 rfl (lv_at hl 0 rfl) ?_
  refine m_geti (k := 19) S hR (by decide) (by decide) q2545 dX4_searches_91 ?_
  refine lv_icmp_ne (tgt := 137) hx hb dX4_searches_94 (by decide) (fun c_94 => ?_) (fun c_94 => ?_)
  · replace hf := o_f hf c_94
    exact wJX4_searches_137 S hrec hf _ _ _ hR hS (lv_sub (l' := [(0, .ref (mo G)), (1, .int y1), (2, .int y2), (3, .int y3), (4, .int y4), (6, .int y6), (7, .int y7)]) hl [0, 1, 2, 3, 4, 6, 7] rfl)
  · replace hf := o_t hf c_94
    refine lv_aload_n hx hb dX4_searches_97 rfl (lv_at hl 0 rfl) ?_
    refine m_geta (k := 20) S hR (by decide) (by decide) q2546 dX4_searches_98 ?_
    refine lv_iconst (v := 0) hx hb dX4_searches_101 (by decide) ?_
    refine lv_iload hx hb dX4_searches_102 (lv_at hl 7 rfl) ?_
    refine k_bind hf (fun σ13 hσ13 hf => ?_)
    refine m_iast S hR hS hσ13 dX4_searches_104 (fun H locs hR hS => ?_)
    refine lv_aload_n hx hb dX4_searches_105 rfl (lv_at hl 0 rfl) ?_
    refine m_geta (k := 20) S hR (by decide) (by decide) q2546 dX4_searches_106 ?_
    refine lv_iconst (v := 1) hx hb dX4_searches_109 (by decide) ?_
    refine lv_iload_n hx hb dX4_searches_110 rfl (lv_at hl 1 rfl) ?_
    refine k_bind hf (fun σ14 hσ14 hf => ?_)
    refine m_iast S hR hS hσ14 dX4_searches_111 (fun H locs hR hS => ?_)
    refine lv_aload_n hx hb dX4_searches_112 rfl (lv_at hl 0 rfl) ?_
    refine m_geta (k := 20) S hR (by decide) (by decide) q2546 dX4_searches_113 ?_
    refine lv_iconst (v := 2) hx hb dX4_searches_116 (by decide) ?_
    refine lv_iload_n hx hb dX4_searches_117 rfl (lv_at hl 2 rfl) ?_
    refine k_bind hf (fun σ15 hσ15 hf => ?_)
    refine m_iast S hR hS hσ15 dX4_searches_118 (fun H locs hR hS => ?_)
    refine lv_aload_n hx hb dX4_searches_119 rfl (lv_at hl 0 rfl) ?_
    refine m_geta (k := 20) S hR (by decide) (by decide) q2546 dX4_searches_120 ?_
    refine lv_iconst (v := 3) hx hb dX4_searches_123 (by decide) ?_
    refine lv_iload_n hx hb dX4_searches_124 rfl (lv_at hl 3 rfl) ?_
    refine lv_bipush (v := 20) hx hb dX4_searches_125 (by decide) ?_
    refine lv_iadd hx hb dX4_searches_127 ?_
    refine k_bind hf (fun σ16 hσ16 hf => ?_)
    refine m_iast S hR hS hσ16 dX4_searches_128 (fun H locs hR hS => ?_)
    refine lv_aload_n hx hb dX4_searches_129 rfl (lv_at hl 0 rfl) ?_
    refine m_geta (k := 20) S hR (by decide) (by decide) q2546 dX4_searches_130 ?_
    refine lv_iconst (v := 4) hx hb dX4_searches_133 (by decide) ?_
    refine lv_iload hx hb dX4_searches_134 (lv_at hl 4 rfl) ?_
    refine k_bind hf (fun σ17 hσ17 hf => ?_)
    refine m_iast S hR hS hσ17 dX4_searches_136 (fun H locs hR hS => ?_)
    exact wJX4_searches_137 S hrec hf _ _ _ hR hS (lv_sub (l' := [(0, .ref (mo G)), (1, .int y1), (2, .int y2), (3, .int y3), (4, .int y4), (6, .int y6), (7, .int y7)]) hl [0, 1, 2, 3, 4, 6, 7] rfl)
set_option maxHeartbeats 4000000 in
set_option maxRecDepth 100000 in
theorem wJX4_searches_70 {l : Launch} {G : mG} {p : Program} {e : Env} {s : State} {m : MethodId} {args : Array Value} {below : List Frame} {meth : Method} {c : Code} {d : Nat} {rec : Int32 → Int32 → Int32 → Int32 → mS → Option (Int32 × mS)} {y1 : Int32} {y2 : Int32} {y3 : Int32} {y4 : Int32} {y5 : Int32} {y6 : Int32} {z0 : Int32} {σ : mS} {res : Int32 × mS} (S : mSt G p m c cX4_searches 11 s args meth (Option.some Jvm.ClassFile.FieldType.int)) (hrec : ∀ {x1 : Int32} {x2 : Int32} {x3 : Int32} {x4 : Int32} {σ : mS} {res : Int32 × mS}, rec x1 x2 x3 x4 σ = some res → mMet l yX4_searches cX4_searches 11 (Option.some Jvm.ClassFile.FieldType.int) (mRm (d + 19) (30 * (d) + 435)) G [.ref (mo G), .int x1, .int x2, .int x3, .int x4] σ (some (.int res.1)) res.2) (hf : JX4_searches_70 rec y1 y2 y3 y4 y5 y6 z0 σ = some res) : ∀ (H : Heap) (locs : List Loc) (ls : Array Slot), mR G σ H → va_S (mA G) s.heap H locs → lv_has ls 11 [(0, .ref (mo G)), (1, .int y1), (2, .int y2), (3, .int y3), (4, .int y4), (5, .int y5), (6, .int y6)] → W p l e (mRm (d + 1 + 19) (30 * (d + 1) + 435)) s m args below meth c H locs 0 0 (MQ below (mQ G (some (.int res.1)) res.2) args s 0 0 (mA G)) (F0 m 70 ls [.int z0]) := by
  replace hf : (if (60 : Int32) ≤ y5 then JX4_searches_88 rec y1 y2 y3 y4 y5 y6 z0 σ else (mast σ 21 y5 z0).bind (fun σ18 => JX4_searches_88 rec y1 y2 y3 y4 y5 y6 z0 σ18)) = some res := hf
  obtain ⟨hx, hb, hml, hown, hts⟩ := S.1.1
  intro H locs ls hR hS hl
  refine lv_istore (lv' := [(7, .int z0), (0, .ref (mo G)), (1, .int y1), (2, .int y2), (3, .int y3), (4, .int y4), (5, .int y5), (6, .int y6)]) hx hb dX4_searches_70 hl (by decide) rfl (fun ls hl => ?_)
  refine lv_iload hx hb dX4_searches_72 (lv_at hl 6 rfl) ?_
  refine lv_bipush (v := 60) hx hb dX4_searches_74 (by decide) ?_
  refine lv_icmp_ge (tgt := 88) hx hb dX4_searches_76 (by decide) (fun c_76 => ?_) (fun c_76 => ?_)
  · replace hf := o_t hf c_76
    exact wJX4_searches_88 S hrec hf _ _ _ hR hS (lv_sub (l' := [(0, .ref (mo G)), (1, .int y1), (2, .int y2), (3, .int y3), (4, .int y4), (5, .int y5), (6, .int y6), (7, .int z0)]) hl [1, 2, 3, 4, 5, 6, 7, 0] rfl)
  · replace hf := o_f hf c_76
    refine lv_aload_n hx hb dX4_searches_79 rfl (lv_at hl 1 rfl) ?_
    refine m_geta (k := 21) S hR (by decide) (by decide) q2547 dX4_searches_80 ?_
    refine lv_iload hx hb dX4_searches_83 (lv_at hl 6 rfl) ?_
    refine lv_iload hx hb dX4_searches_85 (lv_at hl 0 rfl) ?_
    refine k_bind hf (fun σ18 hσ18 hf => ?_)
    refine m_iast S hR hS hσ18 dX4_searches_87 (fun H locs hR hS => ?_)
    exact wJX4_searches_88 S hrec hf _ _ _ hR hS (lv_sub (l' := [(0, .ref (mo G)), (1, .int y1), (2, .int y2), (3, .int y3), (4, .int y4), (5, .int y5), (6, .int y6), (7, .int z0)]) hl [1, 2, 3, 4, 5, 6, 7, 0] rfl)
set_option maxHeartbeats 4000000 in
set_option maxRecDepth 100000 in
theorem wJX4_searches_54 {l : Launch} {G : mG} {p : Program} {e : Env} {s : State} {m : MethodId} {args : Array Value} {below : List Frame} {meth : Method} {c : Code} {d : Nat} {rec : Int32 → Int32 → Int32 → Int32 → mS → Option (Int32 × mS)} {y1 : Int32} {y2 : Int32} {y3 : Int32} {y4 : Int32} {y5 : Int32} {z0 : Int32} {σ : mS} {res : Int32 × mS} (S : mSt G p m c cX4_searches 11 s args meth (Option.some Jvm.ClassFile.FieldType.int)) (hrec : ∀ {x1 : Int32} {x2 : Int32} {x3 : Int32} {x4 : Int32} {σ : mS} {res : Int32 × mS}, rec x1 x2 x3 x4 σ = some res → mMet l yX4_searches cX4_searches 11 (Option.some Jvm.ClassFile.FieldType.int) (mRm (d + 19) (30 * (d) + 435)) G [.ref (mo G), .int x1, .int x2, .int x3, .int x4] σ (some (.int res.1)) res.2) (hf : JX4_searches_54 rec y1 y2 y3 y4 y5 z0 σ = some res) : ∀ (H : Heap) (locs : List Loc) (ls : Array Slot), mR G σ H → va_S (mA G) s.heap H locs → lv_has ls 11 [(0, .ref (mo G)), (1, .int y1), (2, .int y2), (3, .int y3), (4, .int y4), (5, .int y5)] → W p l e (mRm (d + 1 + 19) (30 * (d + 1) + 435)) s m args below meth c H locs 0 0 (MQ below (mQ G (some (.int res.1)) res.2) args s 0 0 (mA G)) (F0 m 54 ls [.int z0]) := by
  replace hf : (if z0 = (0 : Int32) then (fX4_branch y1 σ).bind (fun v5 => JX4_searches_70 rec y1 y2 y3 y4 y5 z0 v5 σ) else JX4_searches_70 rec y1 y2 y3 y4 y5 z0 (-1 : Int32) σ) = some res := hf
  obtain ⟨hx, hb, hml, hown, hts⟩ := S.1.1
  intro H locs ls hR hS hl
  refine lv_istore (lv' := [(6, .int z0), (0, .ref (mo G)), (1, .int y1), (2, .int y2), (3, .int y3), (4, .int y4), (5, .int y5)]) hx hb dX4_searches_54 hl (by decide) rfl (fun ls hl => ?_)
  refine lv_iload hx hb dX4_searches_56 (lv_at hl 0 rfl) ?_
  refine lv_if_eq (tgt := 65) hx hb dX4_searches_58 (by decide) (fun c_58 => ?_) (fun c_58 => ?_)
  · replace hf := o_t hf c_58
    refine lv_aload_n hx hb dX4_searches_65 rfl (lv_at hl 1 rfl) ?_
    refine lv_iload_n hx hb dX4_searches_66 rfl (lv_at hl 2 rfl) ?_
    refine k_bind hf (fun v5 hv5 hf => ?_)
    refine m_call (As := [.int y1]) (rest := []) S hR hS (met_X4_branch hv5) wi_X4_branch rfl q2912 ⟨rfl, rfl⟩ ⟨by simp only [mRm]; omega, by simp only [mRm]; omega⟩ rfl hl.1 rfl (Nat.le_of_ble_eq_true rfl) dX4_searches_67 (fun H locs hR hS => ?_)
    exact wJX4_searches_70 S hrec hf _ _ _ hR hS (lv_sub (l' := [(0, .ref (mo G)), (1, .int y1), (2, .int y2), (3, .int y3), (4, .int y4), (5, .int y5), (6, .int z0)]) hl [1, 2, 3, 4, 5, 6, 0] rfl)
  · replace hf := o_f hf c_58
    refine lv_iconst (v := -1) hx hb dX4_searches_61 (by decide) ?_
    refine lv_goto (tgt := 70) hx hb dX4_searches_62 (by decide) ?_
    exact wJX4_searches_70 S hrec hf _ _ _ hR hS (lv_sub (l' := [(0, .ref (mo G)), (1, .int y1), (2, .int y2), (3, .int y3), (4, .int y4), (5, .int y5), (6, .int z0)]) hl [1, 2, 3, 4, 5, 6, 0] rfl)
set_option maxHeartbeats 4000000 in
set_option maxRecDepth 100000 in
theorem wJX4_searches_35 {l : Launch} {G : mG} {p : Program} {e : Env} {s : State} {m : MethodId} {args : Array Value} {below : List Frame} {meth : Method} {c : Code} {d : Nat} {rec : Int32 → Int32 → Int32 → Int32 → mS → Option (Int32 × mS)} {y1 : Int32} {y2 : Int32} {y3 : Int32} {y4 : Int32} {y5 : Int32} {z0 : Int32} {σ : mS} {res : Int32 × mS} (S : mSt G p m c cX4_searches 11 s args meth (Option.some Jvm.ClassFile.FieldType.int)) (hrec : ∀ {x1 : Int32} {x2 : Int32} {x3 : Int32} {x4 : Int32} {σ : mS} {res : Int32 × mS}, rec x1 x2 x3 x4 σ = some res → mMet l yX4_searches cX4_searches 11 (Option.some Jvm.ClassFile.FieldType.int) (mRm (d + 19) (30 * (d) + 435)) G [.ref (mo G), .int x1, .int x2, .int x3, .int x4] σ (some (.int res.1)) res.2) (hf : JX4_searches_35 rec y1 y2 y3 y4 y5 z0 σ = some res) : ∀ (H : Heap) (locs : List Loc) (ls : Array Slot), mR G σ H → va_S (mA G) s.heap H locs → lv_has ls 11 [(0, .ref (mo G)), (1, .int y1), (2, .int y2), (3, .int y3), (4, .int y4), (5, .int y5)] → W p l e (mRm (d + 1 + 19) (30 * (d + 1) + 435)) s m args below meth c H locs 0 0 (MQ below (mQ G (some (.int res.1)) res.2) args s 0 0 (mA G)) (F0 m 35 ls [.int z0, .ref (mo G)]) := by
  replace hf : ((mput σ 18 z0).bind (fun σ3 => (fX4_leastHalves y1 σ3).bind (fun e4 => if e4.1 ≤ ((2 : Int32) * y3) then JX4_searches_54 rec y1 y2 y3 y4 y5 (0 : Int32) e4.2 else JX4_searches_54 rec y1 y2 y3 y4 y5 (1 : Int32) e4.2))) = some res := hf
  obtain ⟨hx, hb, hml, hown, hts⟩ := S.1.1
  intro H locs ls hR hS hl
  refine k_bind hf (fun σ3 hσ3 hf => ?_)
  refine m_puti (k := 18) S hR hS hσ3 (by decide) (by decide) rfl rfl rfl rfl q2544 dX4_searches_35 (fun H locs hR hS => ?_)
  refine lv_aload_n hx hb dX4_searches_38 rfl (lv_at hl 0 rfl) ?_
  refine lv_iload_n hx hb dX4_searches_39 rfl (lv_at hl 1 rfl) ?_
  refine k_bind hf (fun e4 he4 hf => ?_)
  refine m_call (As := [.int y1]) (rest := []) S hR hS (met_X4_leastHalves he4) wi_X4_leastHalves rfl q2798 ⟨rfl, rfl⟩ ⟨by simp only [mRm]; omega, by simp only [mRm]; omega⟩ rfl hl.1 rfl (Nat.le_of_ble_eq_true rfl) dX4_searches_40 (fun H locs hR hS => ?_)
  refine lv_iconst (v := 2) hx hb dX4_searches_43 (by decide) ?_
  refine lv_iload_n hx hb dX4_searches_44 rfl (lv_at hl 3 rfl) ?_
  refine lv_imul hx hb dX4_searches_45 ?_
  refine lv_icmp_le (tgt := 53) hx hb dX4_searches_46 (by decide) (fun c_46 => ?_) (fun c_46 => ?_)
  · replace hf := o_t hf c_46
    refine lv_iconst (v := 0) hx hb dX4_searches_53 (by decide) ?_
    exact wJX4_searches_54 S hrec hf _ _ _ hR hS hl
  · replace hf := o_f hf c_46
    refine lv_iconst (v := 1) hx hb dX4_searches_49 (by decide) ?_
    refine lv_goto (tgt := 54) hx hb dX4_searches_50 (by decide) ?_
    exact wJX4_searches_54 S hrec hf _ _ _ hR hS hl
set_option maxHeartbeats 4000000 in
set_option maxRecDepth 100000 in
theorem wBX4_searches {d : Nat} {rec : Int32 → Int32 → Int32 → Int32 → mS → Option (Int32 × mS)} {l : Launch} {G : mG} {x1 : Int32} {x2 : Int32} {x3 : Int32} {x4 : Int32} {σ : mS} {res : Int32 × mS} (hrec : ∀ {x1 : Int32} {x2 : Int32} {x3 : Int32} {x4 : Int32} {σ : mS} {res : Int32 × mS}, rec x1 x2 x3 x4 σ = some res → mMet l yX4_searches cX4_searches 11 (Option.some Jvm.ClassFile.FieldType.int) (mRm (d + 19) (30 * (d) + 435)) G [.ref (mo G), .int x1, .int x2, .int x3, .int x4] σ (some (.int res.1)) res.2) (hf : BX4_searches rec x1 x2 x3 x4 σ = some res) : mMet l yX4_searches cX4_searches 11 (Option.some Jvm.ClassFile.FieldType.int) (mRm (d + 1 + 19) (30 * (d + 1) + 435)) G [.ref (mo G), .int x1, .int x2, .int x3, .int x4] σ (some (.int res.1)) res.2 := by
  replace hf : ((some (σ.1 16)).bind (fun v1 => (mput σ 16 ((σ.1 16) + (1 : Int32))).bind (fun σ2 => if x4 ≤ (σ2.1 18) then JX4_searches_35 rec x1 x2 x3 x4 v1 (σ2.1 18) σ2 else JX4_searches_35 rec x1 x2 x3 x4 v1 x4 σ2))) = some res := hf
  refine m_start (by decide) rfl (Nat.le_of_ble_eq_true rfl) ?_
  intro p e s m args below meth c S hR hS ls hl
  obtain ⟨hx, hb, hml, hown, hts⟩ := S.1.1
  have hl : lv_has ls 11 [(0, .ref (mo G)), (1, .int x1), (2, .int x2), (3, .int x3), (4, .int x4)] := hl
  refine lv_aload_n hx hb dX4_searches_0 rfl (lv_at hl 0 rfl) ?_
  refine m_geti (k := 16) S hR (by decide) (by decide) q2542 dX4_searches_1 ?_
  refine k_bind hf (fun v1 hv1 hf => ?_)
  refine m_nmi hv1 ?_
  refine lv_istore (lv' := [(5, .int v1), (0, .ref (mo G)), (1, .int x1), (2, .int x2), (3, .int x3), (4, .int x4)]) hx hb dX4_searches_4 hl (by decide) rfl (fun ls hl => ?_)
  refine lv_aload_n hx hb dX4_searches_6 rfl (lv_at hl 1 rfl) ?_
  refine lv_dup hx hb dX4_searches_7 rfl ?_
  refine m_geti (k := 16) S hR (by decide) (by decide) q2542 dX4_searches_8 ?_
  refine lv_iconst (v := 1) hx hb dX4_searches_11 (by decide) ?_
  refine lv_iadd hx hb dX4_searches_12 ?_
  refine k_bind hf (fun σ2 hσ2 hf => ?_)
  refine m_puti (k := 16) S hR hS hσ2 (by decide) (by decide) rfl rfl rfl rfl q2542 dX4_searches_13 (fun H locs hR hS => ?_)
  refine lv_aload_n hx hb dX4_searches_16 rfl (lv_at hl 1 rfl) ?_
  refine lv_iload hx hb dX4_searches_17 (lv_at hl 5 rfl) ?_
  refine lv_aload_n hx hb dX4_searches_19 rfl (lv_at hl 1 rfl) ?_
  refine m_geti (k := 18) S hR (by decide) (by decide) q2544 dX4_searches_20 ?_
  refine lv_icmp_le (tgt := 31) hx hb dX4_searches_23 (by decide) (fun c_23 => ?_) (fun c_23 => ?_)
  · replace hf := o_t hf c_23
    refine lv_aload_n hx hb dX4_searches_31 rfl (lv_at hl 1 rfl) ?_
    refine m_geti (k := 18) S hR (by decide) (by decide) q2544 dX4_searches_32 ?_
    exact wJX4_searches_35 S hrec hf _ _ _ hR hS (lv_sub (l' := [(0, .ref (mo G)), (1, .int x1), (2, .int x2), (3, .int x3), (4, .int x4), (5, .int v1)]) hl [1, 2, 3, 4, 5, 0] rfl)
  · replace hf := o_f hf c_23
    refine lv_iload hx hb dX4_searches_26 (lv_at hl 5 rfl) ?_
    refine lv_goto (tgt := 35) hx hb dX4_searches_28 (by decide) ?_
    exact wJX4_searches_35 S hrec hf _ _ _ hR hS (lv_sub (l' := [(0, .ref (mo G)), (1, .int x1), (2, .int x2), (3, .int x3), (4, .int x4), (5, .int v1)]) hl [1, 2, 3, 4, 5, 0] rfl)
set_option maxHeartbeats 4000000 in
set_option maxRecDepth 100000 in
theorem met_X4_searches {l : Launch} {G : mG} : ∀ {d : Nat} {x1 : Int32} {x2 : Int32} {x3 : Int32} {x4 : Int32} {σ : mS} {res : Int32 × mS}, fX4_searches d x1 x2 x3 x4 σ = some res → mMet l yX4_searches cX4_searches 11 (Option.some Jvm.ClassFile.FieldType.int) (mRm (d + 19) (30 * (d) + 435)) G [.ref (mo G), .int x1, .int x2, .int x3, .int x4] σ (some (.int res.1)) res.2 := by
  intro d
  induction d with
  | zero => intro  x1 x2 x3 x4 σ res hf; cases hf
  | succ d ih => intro  x1 x2 x3 x4 σ res hf; exact wBX4_searches (fun h => ih h) hf
