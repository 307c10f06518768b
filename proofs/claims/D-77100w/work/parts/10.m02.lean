/-! the reference, walked: all isSet has covers isBare isCover costs costOf least fewest -/
noncomputable def fX4_all (σ : mS) : Int32 :=
  ((ish (1 : Int32) (σ.1 0)) - (1 : Int32))
theorem wi_X4_all : wInfV yX4_all cX4_all 1 (Option.some Jvm.ClassFile.FieldType.int) 0 := ⟨q2740, qs64, q116, q2741, (by decide +kernel), (by decide +kernel), (by decide +kernel)⟩
set_option maxHeartbeats 4000000 in
set_option maxRecDepth 100000 in
theorem met_X4_all {l : Launch} {G : mG} {σ : mS} {res : Int32} (hf : fX4_all σ = res) : mMet l yX4_all cX4_all 1 (Option.some Jvm.ClassFile.FieldType.int) (mRm 0 0) G [.ref (mo G)] σ (some (.int res)) σ := by
  replace hf : ((ish (1 : Int32) (σ.1 0)) - (1 : Int32)) = res := hf
  refine m_start (by decide) rfl (Nat.le_of_ble_eq_true rfl) ?_
  intro p e s m args below meth c S hR hS ls hl
  obtain ⟨hx, hb, hml, hown, hts⟩ := S.1.1
  have hl : lv_has ls 1 [(0, .ref (mo G))] := hl
  refine lv_iconst (v := 1) hx hb dX4_all_0 (by decide) ?_
  refine lv_aload_n hx hb dX4_all_1 rfl (lv_at hl 0 rfl) ?_
  refine m_geti (k := 0) S hR (by decide) (by decide) q2526 dX4_all_2 ?_
  refine lv_ishl hx hb dX4_all_5 ?_
  refine lv_iconst (v := 1) hx hb dX4_all_6 (by decide) ?_
  refine lv_isub hx hb dX4_all_7 ?_
  subst hf
  exact m_iret S hR hS rfl dX4_all_8

noncomputable def fX4_isSet (x1 : Int32) (σ : mS) : Int32 :=
  if (x1 &&& ((fX4_all σ) ^^^ (-1 : Int32))) = (0 : Int32) then (1 : Int32) else (0 : Int32)
theorem wi_X4_isSet : wInfV yX4_isSet cX4_isSet 2 (Option.some Jvm.ClassFile.FieldType.boolean) 1 := ⟨q2736, qs63, q116, q2737, (by decide +kernel), (by decide +kernel), (by decide +kernel)⟩
set_option maxHeartbeats 4000000 in
set_option maxRecDepth 100000 in
theorem met_X4_isSet {l : Launch} {G : mG} {x1 : Int32} {σ : mS} {res : Int32} (hf : fX4_isSet x1 σ = res) : mMet l yX4_isSet cX4_isSet 2 (Option.some Jvm.ClassFile.FieldType.boolean) (mRm 1 20) G [.ref (mo G), .int x1] σ (some (.int res)) σ := by
  replace hf : (if (x1 &&& ((fX4_all σ) ^^^ (-1 : Int32))) = (0 : Int32) then (1 : Int32) else (0 : Int32)) = res := hf
  refine m_start (by decide) rfl (Nat.le_of_ble_eq_true rfl) ?_
  intro p e s m args below meth c S hR hS ls hl
  obtain ⟨hx, hb, hml, hown, hts⟩ := S.1.1
  have hl : lv_has ls 2 [(0, .ref (mo G)), (1, .int x1)] := hl
  refine lv_iload_n hx hb dX4_isSet_0 rfl (lv_at hl 1 rfl) ?_
  refine lv_aload_n hx hb dX4_isSet_1 rfl (lv_at hl 0 rfl) ?_
  refine m_call (As := []) (rest := [.int x1]) S hR hS (met_X4_all rfl) wi_X4_all rfl q2738 ⟨rfl, rfl⟩ ⟨Nat.le_of_ble_eq_true rfl, Nat.le_of_ble_eq_true rfl⟩ rfl hl.1 rfl (Nat.le_of_ble_eq_true rfl) dX4_isSet_2 (fun H locs hR hS => ?_)
  refine lv_iconst (v := -1) hx hb dX4_isSet_5 (by decide) ?_
  refine lv_ixor hx hb dX4_isSet_6 ?_
  refine lv_iand hx hb dX4_isSet_7 ?_
  refine lv_if_ne (tgt := 15) hx hb dX4_isSet_8 (by decide) (fun c_8 => ?_) (fun c_8 => ?_)
  · replace hf := o_f hf c_8
    refine lv_iconst (v := 0) hx hb dX4_isSet_15 (by decide) ?_
    subst hf
    exact m_iret S hR hS rfl dX4_isSet_16
  · replace hf := o_t hf c_8
    refine lv_iconst (v := 1) hx hb dX4_isSet_11 (by decide) ?_
    refine lv_goto (tgt := 16) hx hb dX4_isSet_12 (by decide) ?_
    subst hf
    exact m_iret S hR hS rfl dX4_isSet_16

noncomputable def fX4_has (x0 : Int32) (x1 : Int32) : Int32 :=
  if ((isr x0 x1) &&& (1 : Int32)) = (1 : Int32) then (1 : Int32) else (0 : Int32)
theorem wi_X4_has : wInfS yX4_has cX4_has 2 (Option.some Jvm.ClassFile.FieldType.boolean) 2 := ⟨q2751, q116, q2752, (by decide +kernel), (by decide +kernel), (by decide +kernel)⟩
set_option maxHeartbeats 4000000 in
set_option maxRecDepth 100000 in
theorem met_X4_has {l : Launch} {x0 : Int32} {x1 : Int32} {res : Int32} (hf : fX4_has x0 x1 = res) : sMet l yX4_has cX4_has 2 (Option.some Jvm.ClassFile.FieldType.boolean) (mRm 0 0) [.int x0, .int x1] (some (.int res)) := by
  replace hf : (if ((isr x0 x1) &&& (1 : Int32)) = (1 : Int32) then (1 : Int32) else (0 : Int32)) = res := hf
  refine s_start (by decide) (Nat.le_of_ble_eq_true rfl) ?_
  intro p e s m args below meth c S ls hl
  obtain ⟨hx, hb, hml, hown, hts⟩ := S.1
  have hl : lv_has ls 2 [(0, .int x0), (1, .int x1)] := hl
  refine lv_iload_n hx hb dX4_has_0 rfl (lv_at hl 0 rfl) ?_
  refine lv_iload_n hx hb dX4_has_1 rfl (lv_at hl 1 rfl) ?_
  refine lv_ishr hx hb dX4_has_2 ?_
  refine lv_iconst (v := 1) hx hb dX4_has_3 (by decide) ?_
  refine lv_iand hx hb dX4_has_4 ?_
  refine lv_iconst (v := 1) hx hb dX4_has_5 (by decide) ?_
  refine lv_icmp_ne (tgt := 13) hx hb dX4_has_6 (by decide) (fun c_6 => ?_) (fun c_6 => ?_)
  · replace hf := o_f hf c_6
    refine lv_iconst (v := 0) hx hb dX4_has_13 (by decide) ?_
    subst hf
    exact s_iret S rfl dX4_has_14
  · replace hf := o_t hf c_6
    refine lv_iconst (v := 1) hx hb dX4_has_9 (by decide) ?_
    refine lv_goto (tgt := 14) hx hb dX4_has_10 (by decide) ?_
    subst hf
    exact s_iret S rfl dX4_has_14

noncomputable def LX4_covers_4 (y1 : Int32) (σ : mS) (q : Int32 × Int32) : Option ((Int32 × Int32) ⊕ (Int32)) :=
  if (σ.1 0) ≤ q.2 then some (Sum.inr q.1) else if q.1 = (0 : Int32) then some (Sum.inl ((0 : Int32), q.2 + (1 : Int32))) else if (fX4_has y1 q.2) = (0 : Int32) then (mald σ 4 q.2).bind (fun v1 => if (v1 &&& (y1 ^^^ (-1 : Int32))) = (0 : Int32) then some (Sum.inl ((1 : Int32), q.2 + (1 : Int32))) else some (Sum.inl ((0 : Int32), q.2 + (1 : Int32)))) else some (Sum.inl ((1 : Int32), q.2 + (1 : Int32)))
noncomputable def fX4_covers (x1 : Int32) (σ : mS) : Option Int32 :=
  (lpw (LX4_covers_4 x1 σ) ((1 : Int32), (0 : Int32))).bind (fun b2 => some (b2 &&& 1))
theorem wi_X4_covers : wInfV yX4_covers cX4_covers 4 (Option.some Jvm.ClassFile.FieldType.boolean) 1 := ⟨q2748, qs66, q116, q2749, (by decide +kernel), (by decide +kernel), (by decide +kernel)⟩
set_option maxHeartbeats 4000000 in
set_option maxRecDepth 100000 in
theorem wbLX4_covers_4 {l : Launch} {G : mG} {p : Program} {e : Env} {s : State} {m : MethodId} {args : Array Value} {below : List Frame} {meth : Method} {c : Code} {Q : State → Prop} {y1 : Int32} {σ : mS} {q : Int32 × Int32} {res : (Int32 × Int32) ⊕ (Int32)} (S : mSt G p m c cX4_covers 4 s args meth (Option.some Jvm.ClassFile.FieldType.boolean)) (hf : LX4_covers_4 y1 σ q = some res) (hK : ∀ q, res = Sum.inl q → (∀ (H : Heap) (locs : List Loc) (ls : Array Slot), mR G σ H → va_S (mA G) s.heap H locs → lv_has ls 4 [(0, .ref (mo G)), (1, .int y1), (2, .int q.1), (3, .int q.2)] → W p l e (mRm 1 21) s m args below meth c H locs 0 0 Q (F0 m 4 ls []))) (hE49 : ∀ b, res = Sum.inr b → (∀ (H : Heap) (locs : List Loc) (ls : Array Slot), mR G σ H → va_S (mA G) s.heap H locs → lv_has ls 4 [(0, .ref (mo G)), (2, .int b)] → W p l e (mRm 1 21) s m args below meth c H locs 0 0 Q (F0 m 49 ls []))) : (∀ (H : Heap) (locs : List Loc) (ls : Array Slot), mR G σ H → va_S (mA G) s.heap H locs → lv_has ls 4 [(0, .ref (mo G)), (1, .int y1), (2, .int q.1), (3, .int q.2)] → W p l e (mRm 1 21) s m args below meth c H locs 0 0 Q (F0 m 4 ls [])) := by
  replace hf : (if (σ.1 0) ≤ q.2 then some (Sum.inr q.1) else if q.1 = (0 : Int32) then some (Sum.inl ((0 : Int32), q.2 + (1 : Int32))) else if (fX4_has y1 q.2) = (0 : Int32) then (mald σ 4 q.2).bind (fun v1 => if (v1 &&& (y1 ^^^ (-1 : Int32))) = (0 : Int32) then some (Sum.inl ((1 : Int32), q.2 + (1 : Int32))) else some (Sum.inl ((0 : Int32), q.2 + (1 : Int32)))) else some (Sum.inl ((1 : Int32), q.2 + (1 : Int32)))) = some res := hf
  obtain ⟨hx, hb, hml, hown, hts⟩ := S.1.1
  intro H locs ls hR hS hl
  refine lv_iload_n hx hb dX4_covers_4 rfl (lv_at hl 3 rfl) ?_
  refine lv_aload_n hx hb dX4_covers_5 rfl (lv_at hl 0 rfl) ?_
  refine m_geti (k := 0) S hR (by decide) (by decide) q2526 dX4_covers_6 ?_
  refine lv_icmp_ge (tgt := 49) hx hb dX4_covers_9 (by decide) (fun c_9 => ?_) (fun c_9 => ?_)
  · replace hf := o_t hf c_9
    exact hE49 _ (Option.some.inj hf).symm _ _ _ hR hS (lv_sub (l' := [(0, .ref (mo G)), (2, .int q.1)]) hl [0, 2] rfl)
  · replace hf := o_f hf c_9
    refine lv_iload_n hx hb dX4_covers_12 rfl (lv_at hl 2 rfl) ?_
    refine lv_if_eq (tgt := 41) hx hb dX4_covers_13 (by decide) (fun c_13 => ?_) (fun c_13 => ?_)
    · replace hf := o_t hf c_13
      refine lv_iconst (v := 0) hx hb dX4_covers_41 (by decide) ?_
      refine lv_istore_n (lv' := [(2, .int (0 : Int32)), (0, .ref (mo G)), (1, .int y1), (3, .int q.2)]) hx hb dX4_covers_42 rfl hl (by decide) rfl (fun ls hl => ?_)
      refine lv_iinc (lv' := [(3, .int (q.2 + (1 : Int32))), (2, .int (0 : Int32)), (0, .ref (mo G)), (1, .int y1)]) hx hb dX4_covers_43 hl (k := 3) rfl (m_inc (by decide)) (by decide) rfl (fun ls hl => ?_)
      refine lv_goto (tgt := 4) hx hb dX4_covers_46 (by decide) ?_
      exact hK _ (Option.some.inj hf).symm _ _ _ hR hS (lv_sub (l' := [(0, .ref (mo G)), (1, .int y1), (2, .int (0 : Int32)), (3, .int (q.2 + (1 : Int32)))]) hl [2, 3, 1, 0] rfl)
    · replace hf := o_f hf c_13
      refine lv_iload_n hx hb dX4_covers_16 rfl (lv_at hl 1 rfl) ?_
      refine lv_iload_n hx hb dX4_covers_17 rfl (lv_at hl 3 rfl) ?_
      refine s_call (As := [.int y1, .int q.2]) (rest := []) S.1.1 (met_X4_has rfl) wi_X4_has q2750 ⟨rfl, rfl⟩ ⟨Nat.le_of_ble_eq_true rfl, Nat.le_of_ble_eq_true rfl⟩ rfl hl.1 rfl (Nat.le_of_ble_eq_true rfl) dX4_covers_18 ⟨Nat.zero_le _, Nat.zero_le _⟩ ?_
      refine lv_if_ne (tgt := 37) hx hb dX4_covers_21 (by decide) (fun c_21 => ?_) (fun c_21 => ?_)
      · replace hf := o_f hf c_21
        refine lv_iconst (v := 1) hx hb dX4_covers_37 (by decide) ?_
        refine lv_goto (tgt := 42) hx hb dX4_covers_38 (by decide) ?_
        refine lv_istore_n (lv' := [(2, .int (1 : Int32)), (0, .ref (mo G)), (1, .int y1), (3, .int q.2)]) hx hb dX4_covers_42 rfl hl (by decide) rfl (fun ls hl => ?_)
        refine lv_iinc (lv' := [(3, .int (q.2 + (1 : Int32))), (2, .int (1 : Int32)), (0, .ref (mo G)), (1, .int y1)]) hx hb dX4_covers_43 hl (k := 3) rfl (m_inc (by decide)) (by decide) rfl (fun ls hl => ?_)
        refine lv_goto (tgt := 4) hx hb dX4_covers_46 (by decide) ?_
        exact hK _ (Option.some.inj hf).symm _ _ _ hR hS (lv_sub (l' := [(0, .ref (mo G)), (1, .int y1), (2, .int (1 : Int32)), (3, .int (q.2 + (1 : Int32)))]) hl [2, 3, 1, 0] rfl)
      · replace hf := o_t hf c_21
        refine lv_aload_n hx hb dX4_covers_24 rfl (lv_at hl 0 rfl) ?_
        refine m_geta (k := 4) S hR (by decide) (by decide) q2530 dX4_covers_25 ?_
        refine lv_iload_n hx hb dX4_covers_28 rfl (lv_at hl 3 rfl) ?_
        refine k_bind hf (fun v1 hv1 hf => ?_)
        refine m_iald S hR hv1 dX4_covers_29 ?_
        refine lv_iload_n hx hb dX4_covers_30 rfl (lv_at hl 1 rfl) ?_
        refine lv_iconst (v := -1) hx hb dX4_covers_31 (by decide) ?_
        refine lv_ixor hx hb dX4_covers_32 ?_
        refine lv_iand hx hb dX4_covers_33 ?_
        refine lv_if_ne (tgt := 41) hx hb dX4_covers_34 (by decide) (fun c_34 => ?_) (fun c_34 => ?_)
        · replace hf := o_f hf c_34
          refine lv_iconst (v := 0) hx hb dX4_covers_41 (by decide) ?_
          refine lv_istore_n (lv' := [(2, .int (0 : Int32)), (0, .ref (mo G)), (1, .int y1), (3, .int q.2)]) hx hb dX4_covers_42 rfl hl (by decide) rfl (fun ls hl => ?_)
          refine lv_iinc (lv' := [(3, .int (q.2 + (1 : Int32))), (2, .int (0 : Int32)), (0, .ref (mo G)), (1, .int y1)]) hx hb dX4_covers_43 hl (k := 3) rfl (m_inc (by decide)) (by decide) rfl (fun ls hl => ?_)
          refine lv_goto (tgt := 4) hx hb dX4_covers_46 (by decide) ?_
          exact hK _ (Option.some.inj hf).symm _ _ _ hR hS (lv_sub (l' := [(0, .ref (mo G)), (1, .int y1), (2, .int (0 : Int32)), (3, .int (q.2 + (1 : Int32)))]) hl [2, 3, 1, 0] rfl)
        · replace hf := o_t hf c_34
          refine lv_iconst (v := 1) hx hb dX4_covers_37 (by decide) ?_
          refine lv_goto (tgt := 42) hx hb dX4_covers_38 (by decide) ?_
          refine lv_istore_n (lv' := [(2, .int (1 : Int32)), (0, .ref (mo G)), (1, .int y1), (3, .int q.2)]) hx hb dX4_covers_42 rfl hl (by decide) rfl (fun ls hl => ?_)
          refine lv_iinc (lv' := [(3, .int (q.2 + (1 : Int32))), (2, .int (1 : Int32)), (0, .ref (mo G)), (1, .int y1)]) hx hb dX4_covers_43 hl (k := 3) rfl (m_inc (by decide)) (by decide) rfl (fun ls hl => ?_)
          refine lv_goto (tgt := 4) hx hb dX4_covers_46 (by decide) ?_
          exact hK _ (Option.some.inj hf).symm _ _ _ hR hS (lv_sub (l' := [(0, .ref (mo G)), (1, .int y1), (2, .int (1 : Int32)), (3, .int (q.2 + (1 : Int32)))]) hl [2, 3, 1, 0] rfl)
set_option maxHeartbeats 4000000 in
set_option maxRecDepth 100000 in
theorem wLX4_covers_4 {l : Launch} {G : mG} {p : Program} {e : Env} {s : State} {m : MethodId} {args : Array Value} {below : List Frame} {meth : Method} {c : Code} {Q : State → Prop} {y1 : Int32} {σ : mS} {q : Int32 × Int32} {res : Int32} (S : mSt G p m c cX4_covers 4 s args meth (Option.some Jvm.ClassFile.FieldType.boolean)) (h : lpw (LX4_covers_4 y1 σ) q = some res) (hE49 : ∀ b, res = b → (∀ (H : Heap) (locs : List Loc) (ls : Array Slot), mR G σ H → va_S (mA G) s.heap H locs → lv_has ls 4 [(0, .ref (mo G)), (2, .int b)] → W p l e (mRm 1 21) s m args below meth c H locs 0 0 Q (F0 m 49 ls []))) : (∀ (H : Heap) (locs : List Loc) (ls : Array Slot), mR G σ H → va_S (mA G) s.heap H locs → lv_has ls 4 [(0, .ref (mo G)), (1, .int y1), (2, .int q.1), (3, .int q.2)] → W p l e (mRm 1 21) s m args below meth c H locs 0 0 Q (F0 m 4 ls [])) :=
  lpw_go _ (fun q => (∀ (H : Heap) (locs : List Loc) (ls : Array Slot), mR G σ H → va_S (mA G) s.heap H locs → lv_has ls 4 [(0, .ref (mo G)), (1, .int y1), (2, .int q.1), (3, .int q.2)] → W p l e (mRm 1 21) s m args below meth c H locs 0 0 Q (F0 m 4 ls []))) (fun b0 => (∀ b, b0 = b → (∀ (H : Heap) (locs : List Loc) (ls : Array Slot), mR G σ H → va_S (mA G) s.heap H locs → lv_has ls 4 [(0, .ref (mo G)), (2, .int b)] → W p l e (mRm 1 21) s m args below meth c H locs 0 0 Q (F0 m 49 ls [])))) (fun q x hf hK hX => wbLX4_covers_4 S hf hK (fun b eb => (hX _ eb) b rfl)) q res h hE49
set_option maxHeartbeats 4000000 in
set_option maxRecDepth 100000 in
theorem met_X4_covers {l : Launch} {G : mG} {x1 : Int32} {σ : mS} {res : Int32} (hf : fX4_covers x1 σ = some res) : mMet l yX4_covers cX4_covers 4 (Option.some Jvm.ClassFile.FieldType.boolean) (mRm 1 21) G [.ref (mo G), .int x1] σ (some (.int res)) σ := by
  replace hf : ((lpw (LX4_covers_4 x1 σ) ((1 : Int32), (0 : Int32))).bind (fun b2 => some (b2 &&& 1))) = some res := hf
  refine m_start (by decide) rfl (Nat.le_of_ble_eq_true rfl) ?_
  intro p e s m args below meth c S hR hS ls hl
  obtain ⟨hx, hb, hml, hown, hts⟩ := S.1.1
  have hl : lv_has ls 4 [(0, .ref (mo G)), (1, .int x1)] := hl
  refine lv_iconst (v := 1) hx hb dX4_covers_0 (by decide) ?_
  refine lv_istore_n (lv' := [(2, .int (1 : Int32)), (0, .ref (mo G)), (1, .int x1)]) hx hb dX4_covers_1 rfl hl (by decide) rfl (fun ls hl => ?_)
  refine lv_iconst (v := 0) hx hb dX4_covers_2 (by decide) ?_
  refine lv_istore_n (lv' := [(3, .int (0 : Int32)), (2, .int (1 : Int32)), (0, .ref (mo G)), (1, .int x1)]) hx hb dX4_covers_3 rfl hl (by decide) rfl (fun ls hl => ?_)
  refine k_bind hf (fun b2 hb2 hf => ?_)
  refine wLX4_covers_4 S hb2 ?_ _ _ _ hR hS (lv_sub (l' := [(0, .ref (mo G)), (1, .int x1), (2, .int (1 : Int32)), (3, .int (0 : Int32))]) hl [2, 3, 1, 0] rfl)
  · intro b eb; subst eb; intro H locs ls hR hS hl
    refine lv_iload_n hx hb dX4_covers_49 rfl (lv_at hl 1 rfl) ?_
    obtain rfl := Option.some.inj hf
    exact m_iret S hR hS rfl dX4_covers_50

noncomputable def LX4_isBare_8 (y1 : Int32) (σ : mS) (q : Int32 × Int32) : Option ((Int32 × Int32) ⊕ (Int32)) :=
  if (σ.1 0) ≤ q.2 then some (Sum.inr q.1) else if q.1 = (0 : Int32) then some (Sum.inl ((0 : Int32), q.2 + (1 : Int32))) else if (fX4_has y1 q.2) = (0 : Int32) then some (Sum.inl ((1 : Int32), q.2 + (1 : Int32))) else (mald σ 4 q.2).bind (fun v2 => if (v2 &&& (y1 ^^^ (-1 : Int32))) = (0 : Int32) then some (Sum.inl ((0 : Int32), q.2 + (1 : Int32))) else some (Sum.inl ((1 : Int32), q.2 + (1 : Int32))))
noncomputable def fX4_isBare (x1 : Int32) (σ : mS) : Option Int32 :=
  (fX4_covers x1 σ).bind (fun v1 => (lpw (LX4_isBare_8 x1 σ) (v1, (0 : Int32))).bind (fun b3 => some (b3 &&& 1)))
theorem wi_X4_isBare : wInfV yX4_isBare cX4_isBare 4 (Option.some Jvm.ClassFile.FieldType.boolean) 1 := ⟨q2744, qs65, q116, q2745, (by decide +kernel), (by decide +kernel), (by decide +kernel)⟩
set_option maxHeartbeats 4000000 in
set_option maxRecDepth 100000 in
theorem wbLX4_isBare_8 {l : Launch} {G : mG} {p : Program} {e : Env} {s : State} {m : MethodId} {args : Array Value} {below : List Frame} {meth : Method} {c : Code} {Q : State → Prop} {y1 : Int32} {σ : mS} {q : Int32 × Int32} {res : (Int32 × Int32) ⊕ (Int32)} (S : mSt G p m c cX4_isBare 4 s args meth (Option.some Jvm.ClassFile.FieldType.boolean)) (hf : LX4_isBare_8 y1 σ q = some res) (hK : ∀ q, res = Sum.inl q → (∀ (H : Heap) (locs : List Loc) (ls : Array Slot), mR G σ H → va_S (mA G) s.heap H locs → lv_has ls 4 [(0, .ref (mo G)), (1, .int y1), (2, .int q.1), (3, .int q.2)] → W p l e (mRm 2 44) s m args below meth c H locs 0 0 Q (F0 m 8 ls []))) (hE53 : ∀ b, res = Sum.inr b → (∀ (H : Heap) (locs : List Loc) (ls : Array Slot), mR G σ H → va_S (mA G) s.heap H locs → lv_has ls 4 [(0, .ref (mo G)), (2, .int b)] → W p l e (mRm 2 44) s m args below meth c H locs 0 0 Q (F0 m 53 ls []))) : (∀ (H : Heap) (locs : List Loc) (ls : Array Slot), mR G σ H → va_S (mA G) s.heap H locs → lv_has ls 4 [(0, .ref (mo G)), (1, .int y1), (2, .int q.1), (3, .int q.2)] → W p l e (mRm 2 44) s m args below meth c H locs 0 0 Q (F0 m 8 ls [])) := by
  replace hf : (if (σ.1 0) ≤ q.2 then some (Sum.inr q.1) else if q.1 = (0 : Int32) then some (Sum.inl ((0 : Int32), q.2 + (1 : Int32))) else if (fX4_has y1 q.2) = (0 : Int32) then some (Sum.inl ((1 : Int32), q.2 + (1 : Int32))) else (mald σ 4 q.2).bind (fun v2 => if (v2 &&& (y1 ^^^ (-1 : Int32))) = (0 : Int32) then some (Sum.inl ((0 : Int32), q.2 + (1 : Int32))) else some (Sum.inl ((1 : Int32), q.2 + (1 : Int32))))) = some res := hf
  obtain ⟨hx, hb, hml, hown, hts⟩ := S.1.1
  intro H locs ls hR hS hl
  refine lv_iload_n hx hb dX4_isBare_8 rfl (lv_at hl 3 rfl) ?_
  refine lv_aload_n hx hb dX4_isBare_9 rfl (lv_at hl 0 rfl) ?_
  refine m_geti (k := 0) S hR (by decide) (by decide) q2526 dX4_isBare_10 ?_
  refine lv_icmp_ge (tgt := 53) hx hb dX4_isBare_13 (by decide) (fun c_13 => ?_) (fun c_13 => ?_)
  · replace hf := o_t hf c_13
    exact hE53 _ (Option.some.inj hf).symm _ _ _ hR hS (lv_sub (l' := [(0, .ref (mo G)), (2, .int q.1)]) hl [0, 2] rfl)
  · replace hf := o_f hf c_13
    refine lv_iload_n hx hb dX4_isBare_16 rfl (lv_at hl 2 rfl) ?_
    refine lv_if_eq (tgt := 45) hx hb dX4_isBare_17 (by decide) (fun c_17 => ?_) (fun c_17 => ?_)
    · replace hf := o_t hf c_17
      refine lv_iconst (v := 0) hx hb dX4_isBare_45 (by decide) ?_
      refine lv_istore_n (lv' := [(2, .int (0 : Int32)), (0, .ref (mo G)), (1, .int y1), (3, .int q.2)]) hx hb dX4_isBare_46 rfl hl (by decide) rfl (fun ls hl => ?_)
      refine lv_iinc (lv' := [(3, .int (q.2 + (1 : Int32))), (2, .int (0 : Int32)), (0, .ref (mo G)), (1, .int y1)]) hx hb dX4_isBare_47 hl (k := 3) rfl (m_inc (by decide)) (by decide) rfl (fun ls hl => ?_)
      refine lv_goto (tgt := 8) hx hb dX4_isBare_50 (by decide) ?_
      exact hK _ (Option.some.inj hf).symm _ _ _ hR hS (lv_sub (l' := [(0, .ref (mo G)), (1, .int y1), (2, .int (0 : Int32)), (3, .int (q.2 + (1 : Int32)))]) hl [2, 3, 1, 0] rfl)
    · replace hf := o_f hf c_17
      refine lv_iload_n hx hb dX4_isBare_20 rfl (lv_at hl 1 rfl) ?_
      refine lv_iload_n hx hb dX4_isBare_21 rfl (lv_at hl 3 rfl) ?_
      refine s_call (As := [.int y1, .int q.2]) (rest := []) S.1.1 (met_X4_has rfl) wi_X4_has q2750 ⟨rfl, rfl⟩ ⟨Nat.le_of_ble_eq_true rfl, Nat.le_of_ble_eq_true rfl⟩ rfl hl.1 rfl (Nat.le_of_ble_eq_true rfl) dX4_isBare_22 ⟨Nat.zero_le _, Nat.zero_le _⟩ ?_
      refine lv_if_eq (tgt := 41) hx hb dX4_isBare_25 (by decide) (fun c_25 => ?_) (fun c_25 => ?_)
      · replace hf := o_t hf c_25
        refine lv_iconst (v := 1) hx hb dX4_isBare_41 (by decide) ?_
        refine lv_goto (tgt := 46) hx hb dX4_isBare_42 (by decide) ?_
        refine lv_istore_n (lv' := [(2, .int (1 : Int32)), (0, .ref (mo G)), (1, .int y1), (3, .int q.2)]) hx hb dX4_isBare_46 rfl hl (by decide) rfl (fun ls hl => ?_)
        refine lv_iinc (lv' := [(3, .int (q.2 + (1 : Int32))), (2, .int (1 : Int32)), (0, .ref (mo G)), (1, .int y1)]) hx hb dX4_isBare_47 hl (k := 3) rfl (m_inc (by decide)) (by decide) rfl (fun ls hl => ?_)
        refine lv_goto (tgt := 8) hx hb dX4_isBare_50 (by decide) ?_
        exact hK _ (Option.some.inj hf).symm _ _ _ hR hS (lv_sub (l' := [(0, .ref (mo G)), (1, .int y1), (2, .int (1 : Int32)), (3, .int (q.2 + (1 : Int32)))]) hl [2, 3, 1, 0] rfl)
      · replace hf := o_f hf c_25
        refine lv_aload_n hx hb dX4_isBare_28 rfl (lv_at hl 0 rfl) ?_
        refine m_geta (k := 4) S hR (by decide) (by decide) q2530 dX4_isBare_29 ?_
        refine lv_iload_n hx hb dX4_isBare_32 rfl (lv_at hl 3 rfl) ?_
        refine k_bind hf (fun v2 hv2 hf => ?_)
        refine m_iald S hR hv2 dX4_isBare_33 ?_
        refine lv_iload_n hx hb dX4_isBare_34 rfl (lv_at hl 1 rfl) ?_
        refine lv_iconst (v := -1) hx hb dX4_isBare_35 (by decide) ?_
        refine lv_ixor hx hb dX4_isBare_36 ?_
        refine lv_iand hx hb dX4_isBare_37 ?_
        refine lv_if_eq (tgt := 45) hx hb dX4_isBare_38 (by decide) (fun c_38 => ?_) (fun c_38 => ?_)
        · replace hf := o_t hf c_38
          refine lv_iconst (v := 0) hx hb dX4_isBare_45 (by decide) ?_
          refine lv_istore_n (lv' := [(2, .int (0 : Int32)), (0, .ref (mo G)), (1, .int y1), (3, .int q.2)]) hx hb dX4_isBare_46 rfl hl (by decide) rfl (fun ls hl => ?_)
          refine lv_iinc (lv' := [(3, .int (q.2 + (1 : Int32))), (2, .int (0 : Int32)), (0, .ref (mo G)), (1, .int y1)]) hx hb dX4_isBare_47 hl (k := 3) rfl (m_inc (by decide)) (by decide) rfl (fun ls hl => ?_)
          refine lv_goto (tgt := 8) hx hb dX4_isBare_50 (by decide) ?_
          exact hK _ (Option.some.inj hf).symm _ _ _ hR hS (lv_sub (l' := [(0, .ref (mo G)), (1, .int y1), (2, .int (0 : Int32)), (3, .int (q.2 + (1 : Int32)))]) hl [2, 3, 1, 0] rfl)
        · replace hf := o_f hf c_38
          refine lv_iconst (v := 1) hx hb dX4_isBare_41 (by decide) ?_
          refine lv_goto (tgt := 46) hx hb dX4_isBare_42 (by decide) ?_
          refine lv_istore_n (lv' := [(2, .int (1 : Int32)), (0, .ref (mo G)), (1, .int y1), (3, .int q.2)]) hx hb dX4_isBare_46 rfl hl (by decide) rfl (fun ls hl => ?_)
          refine lv_iinc (lv' := [(3, .int (q.2 + (1 : Int32))), (2, .int (1 : Int32)), (0, .ref (mo G)), (1, .int y1)]) hx hb dX4_isBare_47 hl (k := 3) rfl (m_inc (by decide)) (by decide) rfl (fun ls hl => ?_)
          refine lv_goto (tgt := 8) hx hb dX4_isBare_50 (by decide) ?_
          exact hK _ (Option.some.inj hf).symm _ _ _ hR hS (lv_sub (l' := [(0, .ref (mo G)), (1, .int y1), (2, .int (1 : Int32)), (3, .int (q.2 + (1 : Int32)))]) hl [2, 3, 1, 0] rfl)
set_option maxHeartbeats 4000000 in
set_option maxRecDepth 100000 in
theorem wLX4_isBare_8 {l : Launch} {G : mG} {p : Program} {e : Env} {s : State} {m : MethodId} {args : Array Value} {below : List Frame} {meth : Method} {c : Code} {Q : State → Prop} {y1 : Int32} {σ : mS} {q : Int32 × Int32} {res : Int32} (S : mSt G p m c cX4_isBare 4 s args meth (Option.some Jvm.ClassFile.FieldType.boolean)) (h : lpw (LX4_isBare_8 y1 σ) q = some res) (hE53 : ∀ b, res = b → (∀ (H : Heap) (locs : List Loc) (ls : Array Slot), mR G σ H → va_S (mA G) s.heap H locs → lv_has ls 4 [(0, .ref (mo G)), (2, .int b)] → W p l e (mRm 2 44) s m args below meth c H locs 0 0 Q (F0 m 53 ls []))) : (∀ (H : Heap) (locs : List Loc) (ls : Array Slot), mR G σ H → va_S (mA G) s.heap H locs → lv_has ls 4 [(0, .ref (mo G)), (1, .int y1), (2, .int q.1), (3, .int q.2)] → W p l e (mRm 2 44) s m args below meth c H locs 0 0 Q (F0 m 8 ls [])) :=
  lpw_go _ (fun q => (∀ (H : Heap) (locs : List Loc) (ls : Array Slot), mR G σ H → va_S (mA G) s.heap H locs → lv_has ls 4 [(0, .ref (mo G)), (1, .int y1), (2, .int q.1), (3, .int q.2)] → W p l e (mRm 2 44) s m args below meth c H locs 0 0 Q (F0 m 8 ls []))) (fun b0 => (∀ b, b0 = b → (∀ (H : Heap) (locs : List Loc) (ls : Array Slot), mR G σ H → va_S (mA G) s.heap H locs → lv_has ls 4 [(0, .ref (mo G)), (2, .int b)] → W p l e (mRm 2 44) s m args below meth c H locs 0 0 Q (F0 m 53 ls [])))) (fun q x hf hK hX => wbLX4_isBare_8 S hf hK (fun b eb => (hX _ eb) b rfl)) q res h hE53
set_option maxHeartbeats 4000000 in
set_option maxRecDepth 100000 in
theorem met_X4_isBare {l : Launch} {G : mG} {x1 : Int32} {σ : mS} {res : Int32} (hf : fX4_isBare x1 σ = some res) : mMet l yX4_isBare cX4_isBare 4 (Option.some Jvm.ClassFile.FieldType.boolean) (mRm 2 44) G [.ref (mo G), .int x1] σ (some (.int res)) σ := by
  replace hf : ((fX4_covers x1 σ).bind (fun v1 => (lpw (LX4_isBare_8 x1 σ) (v1, (0 : Int32))).bind (fun b3 => some (b3 &&& 1)))) = some res := hf
  refine m_start (by decide) rfl (Nat.le_of_ble_eq_true rfl) ?_
  intro p e s m args below meth c S hR hS ls hl
  obtain ⟨hx, hb, hml, hown, hts⟩ := S.1.1
  have hl : lv_has ls 4 [(0, .ref (mo G)), (1, .int x1)] := hl
  refine lv_aload_n hx hb dX4_isBare_0 rfl (lv_at hl 0 rfl) ?_
  refine lv_iload_n hx hb dX4_isBare_1 rfl (lv_at hl 1 rfl) ?_
  refine k_bind hf (fun v1 hv1 hf => ?_)
  refine m_call (As := [.int x1]) (rest := []) S hR hS (met_X4_covers hv1) wi_X4_covers rfl q2746 ⟨rfl, rfl⟩ ⟨Nat.le_of_ble_eq_true rfl, Nat.le_of_ble_eq_true rfl⟩ rfl hl.1 rfl (Nat.le_of_ble_eq_true rfl) dX4_isBare_2 (fun H locs hR hS => ?_)
  refine lv_istore_n (lv' := [(2, .int v1), (0, .ref (mo G)), (1, .int x1)]) hx hb dX4_isBare_5 rfl hl (by decide) rfl (fun ls hl => ?_)
  refine lv_iconst (v := 0) hx hb dX4_isBare_6 (by decide) ?_
  refine lv_istore_n (lv' := [(3, .int (0 : Int32)), (2, .int v1), (0, .ref (mo G)), (1, .int x1)]) hx hb dX4_isBare_7 rfl hl (by decide) rfl (fun ls hl => ?_)
  refine k_bind hf (fun b3 hb3 hf => ?_)
  refine wLX4_isBare_8 S hb3 ?_ _ _ _ hR hS (lv_sub (l' := [(0, .ref (mo G)), (1, .int x1), (2, .int v1), (3, .int (0 : Int32))]) hl [2, 3, 1, 0] rfl)
  · intro b eb; subst eb; intro H locs ls hR hS hl
    refine lv_iload_n hx hb dX4_isBare_53 rfl (lv_at hl 1 rfl) ?_
    obtain rfl := Option.some.inj hf
    exact m_iret S hR hS rfl dX4_isBare_54

noncomputable def fX4_isCover (x1 : Int32) (σ : mS) : Option Int32 :=
  if (fX4_isSet x1 σ) = (0 : Int32) then some (-2 : Int32) else (fX4_isBare x1 σ).bind (fun v1 => if v1 = (0 : Int32) then (fX4_covers x1 σ).bind (fun v2 => if v2 = (0 : Int32) then some (0 : Int32) else some (1 : Int32)) else some (2 : Int32))
theorem wi_X4_isCover : wInfV yX4_isCover cX4_isCover 2 (Option.some Jvm.ClassFile.FieldType.int) 1 := ⟨q2731, q2732, q116, q2733, (by decide +kernel), (by decide +kernel), (by decide +kernel)⟩
set_option maxHeartbeats 4000000 in
set_option maxRecDepth 100000 in
theorem met_X4_isCover {l : Launch} {G : mG} {x1 : Int32} {σ : mS} {res : Int32} (hf : fX4_isCover x1 σ = some res) : mMet l yX4_isCover cX4_isCover 2 (Option.some Jvm.ClassFile.FieldType.int) (mRm 3 67) G [.ref (mo G), .int x1] σ (some (.int res)) σ := by
  replace hf : (if (fX4_isSet x1 σ) = (0 : Int32) then some (-2 : Int32) else (fX4_isBare x1 σ).bind (fun v1 => if v1 = (0 : Int32) then (fX4_covers x1 σ).bind (fun v2 => if v2 = (0 : Int32) then some (0 : Int32) else some (1 : Int32)) else some (2 : Int32))) = some res := hf
  refine m_start (by decide) rfl (Nat.le_of_ble_eq_true rfl) ?_
  intro p e s m args below meth c S hR hS ls hl
  obtain ⟨hx, hb, hml, hown, hts⟩ := S.1.1
  have hl : lv_has ls 2 [(0, .ref (mo G)), (1, .int x1)] := hl
  refine lv_aload_n hx hb dX4_isCover_0 rfl (lv_at hl 0 rfl) ?_
  refine lv_iload_n hx hb dX4_isCover_1 rfl (lv_at hl 1 rfl) ?_
  refine m_call (As := [.int x1]) (rest := []) S hR hS (met_X4_isSet rfl) wi_X4_isSet rfl q2734 ⟨rfl, rfl⟩ ⟨Nat.le_of_ble_eq_true rfl, Nat.le_of_ble_eq_true rfl⟩ rfl hl.1 rfl (Nat.le_of_ble_eq_true rfl) dX4_isCover_2 (fun H locs hR hS => ?_)
  refine lv_if_ne (tgt := 13) hx hb dX4_isCover_5 (by decide) (fun c_5 => ?_) (fun c_5 => ?_)
  · replace hf := o_f hf c_5
    refine lv_aload_n hx hb dX4_isCover_13 rfl (lv_at hl 0 rfl) ?_
    refine lv_iload_n hx hb dX4_isCover_14 rfl (lv_at hl 1 rfl) ?_
    refine k_bind hf (fun v1 hv1 hf => ?_)
    refine m_call (As := [.int x1]) (rest := []) S hR hS (met_X4_isBare hv1) wi_X4_isBare rfl q2742 ⟨rfl, rfl⟩ ⟨Nat.le_of_ble_eq_true rfl, Nat.le_of_ble_eq_true rfl⟩ rfl hl.1 rfl (Nat.le_of_ble_eq_true rfl) dX4_isCover_15 (fun H locs hR hS => ?_)
    refine lv_if_eq (tgt := 25) hx hb dX4_isCover_18 (by decide) (fun c_18 => ?_) (fun c_18 => ?_)
    · replace hf := o_t hf c_18
      refine lv_aload_n hx hb dX4_isCover_25 rfl (lv_at hl 0 rfl) ?_
      refine lv_iload_n hx hb dX4_isCover_26 rfl (lv_at hl 1 rfl) ?_
      refine k_bind hf (fun v2 hv2 hf => ?_)
      refine m_call (As := [.int x1]) (rest := []) S hR hS (met_X4_covers hv2) wi_X4_covers rfl q2746 ⟨rfl, rfl⟩ ⟨Nat.le_of_ble_eq_true rfl, Nat.le_of_ble_eq_true rfl⟩ rfl hl.1 rfl (Nat.le_of_ble_eq_true rfl) dX4_isCover_27 (fun H locs hR hS => ?_)
      refine lv_if_eq (tgt := 37) hx hb dX4_isCover_30 (by decide) (fun c_30 => ?_) (fun c_30 => ?_)
      · replace hf := o_t hf c_30
        refine lv_iconst (v := 0) hx hb dX4_isCover_37 (by decide) ?_
        obtain rfl := Option.some.inj hf
        exact m_iret S hR hS rfl dX4_isCover_38
      · replace hf := o_f hf c_30
        refine lv_iconst (v := 1) hx hb dX4_isCover_33 (by decide) ?_
        refine lv_goto (tgt := 38) hx hb dX4_isCover_34 (by decide) ?_
        obtain rfl := Option.some.inj hf
        exact m_iret S hR hS rfl dX4_isCover_38
    · replace hf := o_f hf c_18
      refine lv_iconst (v := 2) hx hb dX4_isCover_21 (by decide) ?_
      refine lv_goto (tgt := 38) hx hb dX4_isCover_22 (by decide) ?_
      obtain rfl := Option.some.inj hf
      exact m_iret S hR hS rfl dX4_isCover_38
  · replace hf := o_t hf c_5
    refine lv_bipush (v := -2) hx hb dX4_isCover_8 (by decide) ?_
    refine lv_goto (tgt := 38) hx hb dX4_isCover_10 (by decide) ?_
    obtain rfl := Option.some.inj hf
    exact m_iret S hR hS rfl dX4_isCover_38

noncomputable def LX4_costs_4 (y1 : Int32) (σ : mS) (q : Int32 × Int32) : Option ((Int32 × Int32) ⊕ (Int32)) :=
  if (σ.1 0) ≤ q.2 then some (Sum.inr q.1) else if (fX4_has y1 q.2) = (0 : Int32) then (some (q.1 + (0 : Int32))).bind (fun v1 => some (Sum.inl (v1, q.2 + (1 : Int32)))) else (fX4_costAt q.2 σ).bind (fun v2 => (some (q.1 + v2)).bind (fun v3 => some (Sum.inl (v3, q.2 + (1 : Int32)))))
noncomputable def fX4_costs (x1 : Int32) (σ : mS) : Option Int32 :=
  (lpw (LX4_costs_4 x1 σ) ((0 : Int32), (0 : Int32))).bind (fun b4 => some b4)
theorem wi_X4_costs : wInfV yX4_costs cX4_costs 4 (Option.some Jvm.ClassFile.FieldType.int) 1 := ⟨q2759, qs67, q116, q2760, (by decide +kernel), (by decide +kernel), (by decide +kernel)⟩
set_option maxHeartbeats 4000000 in
set_option maxRecDepth 100000 in
theorem wbLX4_costs_4 {l : Launch} {G : mG} {p : Program} {e : Env} {s : State} {m : MethodId} {args : Array Value} {below : List Frame} {meth : Method} {c : Code} {Q : State → Prop} {y1 : Int32} {σ : mS} {q : Int32 × Int32} {res : (Int32 × Int32) ⊕ (Int32)} (S : mSt G p m c cX4_costs 4 s args meth (Option.some Jvm.ClassFile.FieldType.int)) (hf : LX4_costs_4 y1 σ q = some res) (hK : ∀ q, res = Sum.inl q → (∀ (H : Heap) (locs : List Loc) (ls : Array Slot), mR G σ H → va_S (mA G) s.heap H locs → lv_has ls 4 [(0, .ref (mo G)), (1, .int y1), (2, .int q.1), (3, .int q.2)] → W p l e (mRm 2 45) s m args below meth c H locs 0 0 Q (F0 m 4 ls []))) (hE38 : ∀ b, res = Sum.inr b → (∀ (H : Heap) (locs : List Loc) (ls : Array Slot), mR G σ H → va_S (mA G) s.heap H locs → lv_has ls 4 [(0, .ref (mo G)), (2, .int b)] → W p l e (mRm 2 45) s m args below meth c H locs 0 0 Q (F0 m 38 ls []))) : (∀ (H : Heap) (locs : List Loc) (ls : Array Slot), mR G σ H → va_S (mA G) s.heap H locs → lv_has ls 4 [(0, .ref (mo G)), (1, .int y1), (2, .int q.1), (3, .int q.2)] → W p l e (mRm 2 45) s m args below meth c H locs 0 0 Q (F0 m 4 ls [])) := by
  replace hf : (if (σ.1 0) ≤ q.2 then some (Sum.inr q.1) else if (fX4_has y1 q.2) = (0 : Int32) then (some (q.1 + (0 : Int32))).bind (fun v1 => some (Sum.inl (v1, q.2 + (1 : Int32)))) else (fX4_costAt q.2 σ).bind (fun v2 => (some (q.1 + v2)).bind (fun v3 => some (Sum.inl (v3, q.2 + (1 : Int32)))))) = some res := hf
  obtain ⟨hx, hb, hml, hown, hts⟩ := S.1.1
  intro H locs ls hR hS hl
  refine lv_iload_n hx hb dX4_costs_4 rfl (lv_at hl 3 rfl) ?_
  refine lv_aload_n hx hb dX4_costs_5 rfl (lv_at hl 0 rfl) ?_
  refine m_geti (k := 0) S hR (by decide) (by decide) q2526 dX4_costs_6 ?_
  refine lv_icmp_ge (tgt := 38) hx hb dX4_costs_9 (by decide) (fun c_9 => ?_) (fun c_9 => ?_)
  · replace hf := o_t hf c_9
    exact hE38 _ (Option.some.inj hf).symm _ _ _ hR hS (lv_sub (l' := [(0, .ref (mo G)), (2, .int q.1)]) hl [0, 2] rfl)
  · replace hf := o_f hf c_9
    refine lv_iload_n hx hb dX4_costs_12 rfl (lv_at hl 2 rfl) ?_
    refine lv_iload_n hx hb dX4_costs_13 rfl (lv_at hl 1 rfl) ?_
    refine lv_iload_n hx hb dX4_costs_14 rfl (lv_at hl 3 rfl) ?_
    refine s_call (As := [.int y1, .int q.2]) (rest := [.int q.1]) S.1.1 (met_X4_has rfl) wi_X4_has q2750 ⟨rfl, rfl⟩ ⟨Nat.le_of_ble_eq_true rfl, Nat.le_of_ble_eq_true rfl⟩ rfl hl.1 rfl (Nat.le_of_ble_eq_true rfl) dX4_costs_15 ⟨Nat.zero_le _, Nat.zero_le _⟩ ?_
    refine lv_if_eq (tgt := 29) hx hb dX4_costs_18 (by decide) (fun c_18 => ?_) (fun c_18 => ?_)
    · replace hf := o_t hf c_18
      refine lv_iconst (v := 0) hx hb dX4_costs_29 (by decide) ?_
      refine lv_iadd hx hb dX4_costs_30 ?_
      refine k_bind hf (fun v1 hv1 hf => ?_)
      refine m_nmi hv1 ?_
      refine lv_istore_n (lv' := [(2, .int v1), (0, .ref (mo G)), (1, .int y1), (3, .int q.2)]) hx hb dX4_costs_31 rfl hl (by decide) rfl (fun ls hl => ?_)
      refine lv_iinc (lv' := [(3, .int (q.2 + (1 : Int32))), (2, .int v1), (0, .ref (mo G)), (1, .int y1)]) hx hb dX4_costs_32 hl (k := 3) rfl (m_inc (by decide)) (by decide) rfl (fun ls hl => ?_)
      refine lv_goto (tgt := 4) hx hb dX4_costs_35 (by decide) ?_
      exact hK _ (Option.some.inj hf).symm _ _ _ hR hS (lv_sub (l' := [(0, .ref (mo G)), (1, .int y1), (2, .int v1), (3, .int (q.2 + (1 : Int32)))]) hl [2, 3, 1, 0] rfl)
    · replace hf := o_f hf c_18
      refine lv_aload_n hx hb dX4_costs_21 rfl (lv_at hl 0 rfl) ?_
      refine lv_iload_n hx hb dX4_costs_22 rfl (lv_at hl 3 rfl) ?_
      refine k_bind hf (fun v2 hv2 hf => ?_)
      refine m_call (As := [.int q.2]) (rest := [.int q.1]) S hR hS (met_X4_costAt hv2) wi_X4_costAt rfl q2708 ⟨rfl, rfl⟩ ⟨Nat.le_of_ble_eq_true rfl, Nat.le_of_ble_eq_true rfl⟩ rfl hl.1 rfl (Nat.le_of_ble_eq_true rfl) dX4_costs_23 (fun H locs hR hS => ?_)
      refine lv_goto (tgt := 30) hx hb dX4_costs_26 (by decide) ?_
      refine lv_iadd hx hb dX4_costs_30 ?_
      refine k_bind hf (fun v3 hv3 hf => ?_)
      refine m_nmi hv3 ?_
      refine lv_istore_n (lv' := [(2, .int v3), (0, .ref (mo G)), (1, .int y1), (3, .int q.2)]) hx hb dX4_costs_31 rfl hl (by decide) rfl (fun ls hl => ?_)
      refine lv_iinc (lv' := [(3, .int (q.2 + (1 : Int32))), (2, .int v3), (0, .ref (mo G)), (1, .int y1)]) hx hb dX4_costs_32 hl (k := 3) rfl (m_inc (by decide)) (by decide) rfl (fun ls hl => ?_)
      refine lv_goto (tgt := 4) hx hb dX4_costs_35 (by decide) ?_
      exact hK _ (Option.some.inj hf).symm _ _ _ hR hS (lv_sub (l' := [(0, .ref (mo G)), (1, .int y1), (2, .int v3), (3, .int (q.2 + (1 : Int32)))]) hl [2, 3, 1, 0] rfl)
set_option maxHeartbeats 4000000 in
set_option maxRecDepth 100000 in
theorem wLX4_costs_4 {l : Launch} {G : mG} {p : Program} {e : Env} {s : State} {m : MethodId} {args : Array Value} {below : List Frame} {meth : Method} {c : Code} {Q : State → Prop} {y1 : Int32} {σ : mS} {q : Int32 × Int32} {res : Int32} (S : mSt G p m c cX4_costs 4 s args meth (Option.some Jvm.ClassFile.FieldType.int)) (h : lpw (LX4_costs_4 y1 σ) q = some res) (hE38 : ∀ b, res = b → (∀ (H : Heap) (locs : List Loc) (ls : Array Slot), mR G σ H → va_S (mA G) s.heap H locs → lv_has ls 4 [(0, .ref (mo G)), (2, .int b)] → W p l e (mRm 2 45) s m args below meth c H locs 0 0 Q (F0 m 38 ls []))) : (∀ (H : Heap) (locs : List Loc) (ls : Array Slot), mR G σ H → va_S (mA G) s.heap H locs → lv_has ls 4 [(0, .ref (mo G)), (1, .int y1), (2, .int q.1), (3, .int q.2)] → W p l e (mRm 2 45) s m args below meth c H locs 0 0 Q (F0 m 4 ls [])) :=
  lpw_go _ (fun q => (∀ (H : Heap) (locs : List Loc) (ls : Array Slot), mR G σ H → va_S (mA G) s.heap H locs → lv_has ls 4 [(0, .ref (mo G)), (1, .int y1), (2, .int q.1), (3, .int q.2)] → W p l e (mRm 2 45) s m args below meth c H locs 0 0 Q (F0 m 4 ls []))) (fun b0 => (∀ b, b0 = b → (∀ (H : Heap) (locs : List Loc) (ls : Array Slot), mR G σ H → va_S (mA G) s.heap H locs → lv_has ls 4 [(0, .ref (mo G)), (2, .int b)] → W p l e (mRm 2 45) s m args below meth c H locs 0 0 Q (F0 m 38 ls [])))) (fun q x hf hK hX => wbLX4_costs_4 S hf hK (fun b eb => (hX _ eb) b rfl)) q res h hE38
set_option maxHeartbeats 4000000 in
set_option maxRecDepth 100000 in
theorem met_X4_costs {l : Launch} {G : mG} {x1 : Int32} {σ : mS} {res : Int32} (hf : fX4_costs x1 σ = some res) : mMet l yX4_costs cX4_costs 4 (Option.some Jvm.ClassFile.FieldType.int) (mRm 2 45) G [.ref (mo G), .int x1] σ (some (.int res)) σ := by
  replace hf : ((lpw (LX4_costs_4 x1 σ) ((0 : Int32), (0 : Int32))).bind (fun b4 => some b4)) = some res := hf
  refine m_start (by decide) rfl (Nat.le_of_ble_eq_true rfl) ?_
  intro p e s m args below meth c S hR hS ls hl
  obtain ⟨hx, hb, hml, hown, hts⟩ := S.1.1
  have hl : lv_has ls 4 [(0, .ref (mo G)), (1, .int x1)] := hl
  refine lv_iconst (v := 0) hx hb dX4_costs_0 (by decide) ?_
  refine lv_istore_n (lv' := [(2, .int (0 : Int32)), (0, .ref (mo G)), (1, .int x1)]) hx hb dX4_costs_1 rfl hl (by decide) rfl (fun ls hl => ?_)
  refine lv_iconst (v := 0) hx hb dX4_costs_2 (by decide) ?_
  refine lv_istore_n (lv' := [(3, .int (0 : Int32)), (2, .int (0 : Int32)), (0, .ref (mo G)), (1, .int x1)]) hx hb dX4_costs_3 rfl hl (by decide) rfl (fun ls hl => ?_)
  refine k_bind hf (fun b4 hb4 hf => ?_)
  refine wLX4_costs_4 S hb4 ?_ _ _ _ hR hS (lv_sub (l' := [(0, .ref (mo G)), (1, .int x1), (2, .int (0 : Int32)), (3, .int (0 : Int32))]) hl [2, 3, 1, 0] rfl)
  · intro b eb; subst eb; intro H locs ls hR hS hl
    refine lv_iload_n hx hb dX4_costs_38 rfl (lv_at hl 1 rfl) ?_
    obtain rfl := Option.some.inj hf
    exact m_iret S hR hS rfl dX4_costs_39

noncomputable def fX4_costOf (x1 : Int32) (σ : mS) : Option Int32 :=
  if (fX4_isSet x1 σ) = (0 : Int32) then some (-2 : Int32) else (fX4_costs x1 σ).bind (fun v1 => some v1)
theorem wi_X4_costOf : wInfV yX4_costOf cX4_costOf 2 (Option.some Jvm.ClassFile.FieldType.int) 1 := ⟨q2754, q2755, q116, q2756, (by decide +kernel), (by decide +kernel), (by decide +kernel)⟩
set_option maxHeartbeats 4000000 in
set_option maxRecDepth 100000 in
theorem met_X4_costOf {l : Launch} {G : mG} {x1 : Int32} {σ : mS} {res : Int32} (hf : fX4_costOf x1 σ = some res) : mMet l yX4_costOf cX4_costOf 2 (Option.some Jvm.ClassFile.FieldType.int) (mRm 3 68) G [.ref (mo G), .int x1] σ (some (.int res)) σ := by
  replace hf : (if (fX4_isSet x1 σ) = (0 : Int32) then some (-2 : Int32) else (fX4_costs x1 σ).bind (fun v1 => some v1)) = some res := hf
  refine m_start (by decide) rfl (Nat.le_of_ble_eq_true rfl) ?_
  intro p e s m args below meth c S hR hS ls hl
  obtain ⟨hx, hb, hml, hown, hts⟩ := S.1.1
  have hl : lv_has ls 2 [(0, .ref (mo G)), (1, .int x1)] := hl
  refine lv_aload_n hx hb dX4_costOf_0 rfl (lv_at hl 0 rfl) ?_
  refine lv_iload_n hx hb dX4_costOf_1 rfl (lv_at hl 1 rfl) ?_
  refine m_call (As := [.int x1]) (rest := []) S hR hS (met_X4_isSet rfl) wi_X4_isSet rfl q2734 ⟨rfl, rfl⟩ ⟨Nat.le_of_ble_eq_true rfl, Nat.le_of_ble_eq_true rfl⟩ rfl hl.1 rfl (Nat.le_of_ble_eq_true rfl) dX4_costOf_2 (fun H locs hR hS => ?_)
  refine lv_if_eq (tgt := 16) hx hb dX4_costOf_5 (by decide) (fun c_5 => ?_) (fun c_5 => ?_)
  · replace hf := o_t hf c_5
    refine lv_bipush (v := -2) hx hb dX4_costOf_16 (by decide) ?_
    obtain rfl := Option.some.inj hf
    exact m_iret S hR hS rfl dX4_costOf_18
  · replace hf := o_f hf c_5
    refine lv_aload_n hx hb dX4_costOf_8 rfl (lv_at hl 0 rfl) ?_
    refine lv_iload_n hx hb dX4_costOf_9 rfl (lv_at hl 1 rfl) ?_
    refine k_bind hf (fun v1 hv1 hf => ?_)
    refine m_call (As := [.int x1]) (rest := []) S hR hS (met_X4_costs hv1) wi_X4_costs rfl q2757 ⟨rfl, rfl⟩ ⟨Nat.le_of_ble_eq_true rfl, Nat.le_of_ble_eq_true rfl⟩ rfl hl.1 rfl (Nat.le_of_ble_eq_true rfl) dX4_costOf_10 (fun H locs hR hS => ?_)
    refine lv_goto (tgt := 18) hx hb dX4_costOf_13 (by decide) ?_
    obtain rfl := Option.some.inj hf
    exact m_iret S hR hS rfl dX4_costOf_18

noncomputable def LX4_least_7 (σ : mS) (q : Int32 × Int32) : Option ((Int32 × Int32) ⊕ (Int32)) :=
  if (fX4_all σ) < q.2 then some (Sum.inr q.1) else (fX4_bits q.2).bind (fun v2 => if q.1 ≤ v2 then some (Sum.inl (q.1, q.2 + (1 : Int32))) else (fX4_covers q.2 σ).bind (fun v3 => if v3 = (0 : Int32) then some (Sum.inl (q.1, q.2 + (1 : Int32))) else (fX4_bits q.2).bind (fun v4 => some (Sum.inl (v4, q.2 + (1 : Int32))))))
noncomputable def fX4_least (σ : mS) : Option Int32 :=
  (some (σ.1 0)).bind (fun v1 => (lpw (LX4_least_7 σ) (v1, (0 : Int32))).bind (fun b5 => some b5))
theorem wi_X4_least : wInfV yX4_least cX4_least 3 (Option.some Jvm.ClassFile.FieldType.int) 0 := ⟨q2767, qs68, q116, q2768, (by decide +kernel), (by decide +kernel), (by decide +kernel)⟩
set_option maxHeartbeats 4000000 in
set_option maxRecDepth 100000 in
theorem wbLX4_least_7 {l : Launch} {G : mG} {p : Program} {e : Env} {s : State} {m : MethodId} {args : Array Value} {below : List Frame} {meth : Method} {c : Code} {Q : State → Prop} {σ : mS} {q : Int32 × Int32} {res : (Int32 × Int32) ⊕ (Int32)} (S : mSt G p m c cX4_least 3 s args meth (Option.some Jvm.ClassFile.FieldType.int)) (hf : LX4_least_7 σ q = some res) (hK : ∀ q, res = Sum.inl q → (∀ (H : Heap) (locs : List Loc) (ls : Array Slot), mR G σ H → va_S (mA G) s.heap H locs → lv_has ls 3 [(0, .ref (mo G)), (1, .int q.1), (2, .int q.2)] → W p l e (mRm 2 44) s m args below meth c H locs 0 0 Q (F0 m 7 ls []))) (hE46 : ∀ b, res = Sum.inr b → (∀ (H : Heap) (locs : List Loc) (ls : Array Slot), mR G σ H → va_S (mA G) s.heap H locs → lv_has ls 3 [(0, .ref (mo G)), (1, .int b)] → W p l e (mRm 2 44) s m args below meth c H locs 0 0 Q (F0 m 46 ls []))) : (∀ (H : Heap) (locs : List Loc) (ls : Array Slot), mR G σ H → va_S (mA G) s.heap H locs → lv_has ls 3 [(0, .ref (mo G)), (1, .int q.1), (2, .int q.2)] → W p l e (mRm 2 44) s m args below meth c H locs 0 0 Q (F0 m 7 ls [])) := by
  replace hf : (if (fX4_all σ) < q.2 then some (Sum.inr q.1) else (fX4_bits q.2).bind (fun v2 => if q.1 ≤ v2 then some (Sum.inl (q.1, q.2 + (1 : Int32))) else (fX4_covers q.2 σ).bind (fun v3 => if v3 = (0 : Int32) then some (Sum.inl (q.1, q.2 + (1 : Int32))) else (fX4_bits q.2).bind (fun v4 => some (Sum.inl (v4, q.2 + (1 : Int32))))))) = some res := hf
  obtain ⟨hx, hb, hml, hown, hts⟩ := S.1.1
  intro H locs ls hR hS hl
  refine lv_iload_n hx hb dX4_least_7 rfl (lv_at hl 2 rfl) ?_
  refine lv_aload_n hx hb dX4_least_8 rfl (lv_at hl 0 rfl) ?_
  refine m_call (As := []) (rest := [.int q.2]) S hR hS (met_X4_all rfl) wi_X4_all rfl q2738 ⟨rfl, rfl⟩ ⟨Nat.le_of_ble_eq_true rfl, Nat.le_of_ble_eq_true rfl⟩ rfl hl.1 rfl (Nat.le_of_ble_eq_true rfl) dX4_least_9 (fun H locs hR hS => ?_)
  refine lv_icmp_gt (tgt := 46) hx hb dX4_least_12 (by decide) (fun c_12 => ?_) (fun c_12 => ?_)
  · replace hf := o_t hf c_12
    exact hE46 _ (Option.some.inj hf).symm _ _ _ hR hS (lv_sub (l' := [(0, .ref (mo G)), (1, .int q.1)]) hl [0, 1] rfl)
  · replace hf := o_f hf c_12
    refine lv_iload_n hx hb dX4_least_15 rfl (lv_at hl 2 rfl) ?_
    refine k_bind hf (fun v2 hv2 hf => ?_)
    refine s_call (As := [.int q.2]) (rest := []) S.1.1 (met_X4_bits hv2) wi_X4_bits q2712 ⟨rfl, rfl⟩ ⟨Nat.le_of_ble_eq_true rfl, Nat.le_of_ble_eq_true rfl⟩ rfl hl.1 rfl (Nat.le_of_ble_eq_true rfl) dX4_least_16 ⟨Nat.zero_le _, Nat.zero_le _⟩ ?_
    refine lv_iload_n hx hb dX4_least_19 rfl (lv_at hl 1 rfl) ?_
    refine lv_icmp_ge (tgt := 38) hx hb dX4_least_20 (by decide) (fun c_20 => ?_) (fun c_20 => ?_)
    · replace hf := o_t hf c_20
      refine lv_iload_n hx hb dX4_least_38 rfl (lv_at hl 1 rfl) ?_
      refine lv_istore_n (lv' := [(1, .int q.1), (0, .ref (mo G)), (2, .int q.2)]) hx hb dX4_least_39 rfl hl (by decide) rfl (fun ls hl => ?_)
      refine lv_iinc (lv' := [(2, .int (q.2 + (1 : Int32))), (1, .int q.1), (0, .ref (mo G))]) hx hb dX4_least_40 hl (k := 2) rfl (m_inc (by decide)) (by decide) rfl (fun ls hl => ?_)
      refine lv_goto (tgt := 7) hx hb dX4_least_43 (by decide) ?_
      exact hK _ (Option.some.inj hf).symm _ _ _ hR hS (lv_sub (l' := [(0, .ref (mo G)), (1, .int q.1), (2, .int (q.2 + (1 : Int32)))]) hl [2, 1, 0] rfl)
    · replace hf := o_f hf c_20
      refine lv_aload_n hx hb dX4_least_23 rfl (lv_at hl 0 rfl) ?_
      refine lv_iload_n hx hb dX4_least_24 rfl (lv_at hl 2 rfl) ?_
      refine k_bind hf (fun v3 hv3 hf => ?_)
      refine m_call (As := [.int q.2]) (rest := []) S hR hS (met_X4_covers hv3) wi_X4_covers rfl q2746 ⟨rfl, rfl⟩ ⟨Nat.le_of_ble_eq_true rfl, Nat.le_of_ble_eq_true rfl⟩ rfl hl.1 rfl (Nat.le_of_ble_eq_true rfl) dX4_least_25 (fun H locs hR hS => ?_)
      refine lv_if_eq (tgt := 38) hx hb dX4_least_28 (by decide) (fun c_28 => ?_) (fun c_28 => ?_)
      · replace hf := o_t hf c_28
        refine lv_iload_n hx hb dX4_least_38 rfl (lv_at hl 1 rfl) ?_
        refine lv_istore_n (lv' := [(1, .int q.1), (0, .ref (mo G)), (2, .int q.2)]) hx hb dX4_least_39 rfl hl (by decide) rfl (fun ls hl => ?_)
        refine lv_iinc (lv' := [(2, .int (q.2 + (1 : Int32))), (1, .int q.1), (0, .ref (mo G))]) hx hb dX4_least_40 hl (k := 2) rfl (m_inc (by decide)) (by decide) rfl (fun ls hl => ?_)
        refine lv_goto (tgt := 7) hx hb dX4_least_43 (by decide) ?_
        exact hK _ (Option.some.inj hf).symm _ _ _ hR hS (lv_sub (l' := [(0, .ref (mo G)), (1, .int q.1), (2, .int (q.2 + (1 : Int32)))]) hl [2, 1, 0] rfl)
      · replace hf := o_f hf c_28
        refine lv_iload_n hx hb dX4_least_31 rfl (lv_at hl 2 rfl) ?_
        refine k_bind hf (fun v4 hv4 hf => ?_)
        refine s_call (As := [.int q.2]) (rest := []) S.1.1 (met_X4_bits hv4) wi_X4_bits q2712 ⟨rfl, rfl⟩ ⟨Nat.le_of_ble_eq_true rfl, Nat.le_of_ble_eq_true rfl⟩ rfl hl.1 rfl (Nat.le_of_ble_eq_true rfl) dX4_least_32 ⟨Nat.zero_le _, Nat.zero_le _⟩ ?_
        refine lv_goto (tgt := 39) hx hb dX4_least_35 (by decide) ?_
        refine lv_istore_n (lv' := [(1, .int v4), (0, .ref (mo G)), (2, .int q.2)]) hx hb dX4_least_39 rfl hl (by decide) rfl (fun ls hl => ?_)
        refine lv_iinc (lv' := [(2, .int (q.2 + (1 : Int32))), (1, .int v4), (0, .ref (mo G))]) hx hb dX4_least_40 hl (k := 2) rfl (m_inc (by decide)) (by decide) rfl (fun ls hl => ?_)
        refine lv_goto (tgt := 7) hx hb dX4_least_43 (by decide) ?_
        exact hK _ (Option.some.inj hf).symm _ _ _ hR hS (lv_sub (l' := [(0, .ref (mo G)), (1, .int v4), (2, .int (q.2 + (1 : Int32)))]) hl [2, 1, 0] rfl)
set_option maxHeartbeats 4000000 in
set_option maxRecDepth 100000 in
theorem wLX4_least_7 {l : Launch} {G : mG} {p : Program} {e : Env} {s : State} {m : MethodId} {args : Array Value} {below : List Frame} {meth : Method} {c : Code} {Q : State → Prop} {σ : mS} {q : Int32 × Int32} {res : Int32} (S : mSt G p m c cX4_least 3 s args meth (Option.some Jvm.ClassFile.FieldType.int)) (h : lpw (LX4_least_7 σ) q = some res) (hE46 : ∀ b, res = b → (∀ (H : Heap) (locs : List Loc) (ls : Array Slot), mR G σ H → va_S (mA G) s.heap H locs → lv_has ls 3 [(0, .ref (mo G)), (1, .int b)] → W p l e (mRm 2 44) s m args below meth c H locs 0 0 Q (F0 m 46 ls []))) : (∀ (H : Heap) (locs : List Loc) (ls : Array Slot), mR G σ H → va_S (mA G) s.heap H locs → lv_has ls 3 [(0, .ref (mo G)), (1, .int q.1), (2, .int q.2)] → W p l e (mRm 2 44) s m args below meth c H locs 0 0 Q (F0 m 7 ls [])) :=
  lpw_go _ (fun q => (∀ (H : Heap) (locs : List Loc) (ls : Array Slot), mR G σ H → va_S (mA G) s.heap H locs → lv_has ls 3 [(0, .ref (mo G)), (1, .int q.1), (2, .int q.2)] → W p l e (mRm 2 44) s m args below meth c H locs 0 0 Q (F0 m 7 ls []))) (fun b0 => (∀ b, b0 = b → (∀ (H : Heap) (locs : List Loc) (ls : Array Slot), mR G σ H → va_S (mA G) s.heap H locs → lv_has ls 3 [(0, .ref (mo G)), (1, .int b)] → W p l e (mRm 2 44) s m args below meth c H locs 0 0 Q (F0 m 46 ls [])))) (fun q x hf hK hX => wbLX4_least_7 S hf hK (fun b eb => (hX _ eb) b rfl)) q res h hE46
set_option maxHeartbeats 4000000 in
set_option maxRecDepth 100000 in
theorem met_X4_least {l : Launch} {G : mG} {σ : mS} {res : Int32} (hf : fX4_least σ = some res) : mMet l yX4_least cX4_least 3 (Option.some Jvm.ClassFile.FieldType.int) (mRm 2 44) G [.ref (mo G)] σ (some (.int res)) σ := by
  replace hf : ((some (σ.1 0)).bind (fun v1 => (lpw (LX4_least_7 σ) (v1, (0 : Int32))).bind (fun b5 => some b5))) = some res := hf
  refine m_start (by decide) rfl (Nat.le_of_ble_eq_true rfl) ?_
  intro p e s m args below meth c S hR hS ls hl
  obtain ⟨hx, hb, hml, hown, hts⟩ := S.1.1
  have hl : lv_has ls 3 [(0, .ref (mo G))] := hl
  refine lv_aload_n hx hb dX4_least_0 rfl (lv_at hl 0 rfl) ?_
  refine m_geti (k := 0) S hR (by decide) (by decide) q2526 dX4_least_1 ?_
  refine k_bind hf (fun v1 hv1 hf => ?_)
  refine m_nmi hv1 ?_
  refine lv_istore_n (lv' := [(1, .int v1), (0, .ref (mo G))]) hx hb dX4_least_4 rfl hl (by decide) rfl (fun ls hl => ?_)
  refine lv_iconst (v := 0) hx hb dX4_least_5 (by decide) ?_
  refine lv_istore_n (lv' := [(2, .int (0 : Int32)), (1, .int v1), (0, .ref (mo G))]) hx hb dX4_least_6 rfl hl (by decide) rfl (fun ls hl => ?_)
  refine k_bind hf (fun b5 hb5 hf => ?_)
  refine wLX4_least_7 S hb5 ?_ _ _ _ hR hS (lv_sub (l' := [(0, .ref (mo G)), (1, .int v1), (2, .int (0 : Int32))]) hl [2, 1, 0] rfl)
  · intro b eb; subst eb; intro H locs ls hR hS hl
    refine lv_iload_n hx hb dX4_least_46 rfl (lv_at hl 1 rfl) ?_
    obtain rfl := Option.some.inj hf
    exact m_iret S hR hS rfl dX4_least_47

noncomputable def JX4_fewest_75 (y1 : Int32) (y2 : Int32) (y4 : Int32) (y5 : Int32) (y6 : Int32) (y7 : Int32) (z0 : Int32) (σ : mS) : Option ((Int32 × Int32 × Int32 × Int32 × Int32) ⊕ (Int32 × Int32 × Int32 × Int32)) :=
  (some (y5 &&& y7)).bind (fun v5 => (some (y6 ||| y7)).bind (fun v6 => some (Sum.inl (z0, y4 + (1 : Int32), v5, v6, y7 + (1 : Int32)))))
noncomputable def LX4_fewest_34 (y1 : Int32) (y2 : Int32) (σ : mS) (q : Int32 × Int32 × Int32 × Int32 × Int32) : Option ((Int32 × Int32 × Int32 × Int32 × Int32) ⊕ (Int32 × Int32 × Int32 × Int32)) :=
  if (fX4_all σ) < q.2.2.2.2 then some (Sum.inr (q.1, q.2.1, q.2.2.1, q.2.2.2.1)) else (fX4_bits q.2.2.2.2).bind (fun v3 => if v3 = y2 then (fX4_covers q.2.2.2.2 σ).bind (fun v4 => if v4 = (0 : Int32) then some (Sum.inl (q.1, q.2.1, q.2.2.1, q.2.2.2.1, q.2.2.2.2 + (1 : Int32))) else if q.1 = (-1 : Int32) then JX4_fewest_75 y1 y2 q.2.1 q.2.2.1 q.2.2.2.1 q.2.2.2.2 q.2.2.2.2 σ else JX4_fewest_75 y1 y2 q.2.1 q.2.2.1 q.2.2.2.1 q.2.2.2.2 q.1 σ) else some (Sum.inl (q.1, q.2.1, q.2.2.1, q.2.2.2.1, q.2.2.2.2 + (1 : Int32))))
noncomputable def fX4_fewest (x1 : Int32) (σ : mS) : Option Int32 :=
  if (fX4_in x1 (0 : Int32) (4 : Int32)) = (0 : Int32) then some (-2 : Int32) else (fX4_least σ).bind (fun v1 => (some (fX4_all σ)).bind (fun v2 => (lpw (LX4_fewest_34 x1 v1 σ) ((-1 : Int32), (0 : Int32), v2, (0 : Int32), (0 : Int32))).bind (fun b7 => if x1 = (0 : Int32) then some v1 else if x1 = (1 : Int32) then some b7.1 else if x1 = (2 : Int32) then some b7.2.1 else if x1 = (3 : Int32) then some b7.2.2.1 else some ((fX4_all σ) &&& (b7.2.2.2 ^^^ (-1 : Int32))))))
theorem wi_X4_fewest : wInfV yX4_fewest cX4_fewest 8 (Option.some Jvm.ClassFile.FieldType.int) 1 := ⟨q2762, q2763, q116, q2764, (by decide +kernel), (by decide +kernel), (by decide +kernel)⟩
set_option maxHeartbeats 4000000 in
set_option maxRecDepth 100000 in
theorem wJX4_fewest_75 {l : Launch} {G : mG} {p : Program} {e : Env} {s : State} {m : MethodId} {args : Array Value} {below : List Frame} {meth : Method} {c : Code} {Q : State → Prop} {y1 : Int32} {y2 : Int32} {y4 : Int32} {y5 : Int32} {y6 : Int32} {y7 : Int32} {z0 : Int32} {σ : mS} {res : (Int32 × Int32 × Int32 × Int32 × Int32) ⊕ (Int32 × Int32 × Int32 × Int32)} (S : mSt G p m c cX4_fewest 8 s args meth (Option.some Jvm.ClassFile.FieldType.int)) (hf : JX4_fewest_75 y1 y2 y4 y5 y6 y7 z0 σ = some res) (hK : ∀ q, res = Sum.inl q → (∀ (H : Heap) (locs : List Loc) (ls : Array Slot), mR G σ H → va_S (mA G) s.heap H locs → lv_has ls 8 [(0, .ref (mo G)), (1, .int y1), (2, .int y2), (3, .int q.1), (4, .int q.2.1), (5, .int q.2.2.1), (6, .int q.2.2.2.1), (7, .int q.2.2.2.2)] → W p l e (mRm 3 66) s m args below meth c H locs 0 0 Q (F0 m 34 ls []))) (hE99 : ∀ b, res = Sum.inr b → (∀ (H : Heap) (locs : List Loc) (ls : Array Slot), mR G σ H → va_S (mA G) s.heap H locs → lv_has ls 8 [(0, .ref (mo G)), (1, .int y1), (2, .int y2), (3, .int b.1), (4, .int b.2.1), (5, .int b.2.2.1), (6, .int b.2.2.2)] → W p l e (mRm 3 66) s m args below meth c H locs 0 0 Q (F0 m 99 ls []))) : ∀ (H : Heap) (locs : List Loc) (ls : Array Slot), mR G σ H → va_S (mA G) s.heap H locs → lv_has ls 8 [(0, .ref (mo G)), (1, .int y1), (2, .int y2), (4, .int y4), (5, .int y5), (6, .int y6), (7, .int y7)] → W p l e (mRm 3 66) s m args below meth c H locs 0 0 Q (F0 m 75 ls [.int z0]) := by
  replace hf : ((some (y5 &&& y7)).bind (fun v5 => (some (y6 ||| y7)).bind (fun v6 => some (Sum.inl (z0, y4 + (1 : Int32), v5, v6, y7 + (1 : Int32)))))) = some res := hf
  obtain ⟨hx, hb, hml, hown, hts⟩ := S.1.1
  intro H locs ls hR hS hl
  refine lv_istore_n (lv' := [(3, .int z0), (0, .ref (mo G)), (1, .int y1), (2, .int y2), (4, .int y4), (5, .int y5), (6, .int y6), (7, .int y7)]) hx hb dX4_fewest_75 rfl hl (by decide) rfl (fun ls hl => ?_)
  refine lv_iinc (lv' := [(4, .int (y4 + (1 : Int32))), (3, .int z0), (0, .ref (mo G)), (1, .int y1), (2, .int y2), (5, .int y5), (6, .int y6), (7, .int y7)]) hx hb dX4_fewest_76 hl (k := 4) rfl (m_inc (by decide)) (by decide) rfl (fun ls hl => ?_)
  refine lv_iload hx hb dX4_fewest_79 (lv_at hl 5 rfl) ?_
  refine lv_iload hx hb dX4_fewest_81 (lv_at hl 7 rfl) ?_
  refine lv_iand hx hb dX4_fewest_83 ?_
  refine k_bind hf (fun v5 hv5 hf => ?_)
  refine m_nmi hv5 ?_
  refine lv_istore (lv' := [(5, .int v5), (4, .int (y4 + (1 : Int32))), (3, .int z0), (0, .ref (mo G)), (1, .int y1), (2, .int y2), (6, .int y6), (7, .int y7)]) hx hb dX4_fewest_84 hl (by decide) rfl (fun ls hl => ?_)
  refine lv_iload hx hb dX4_fewest_86 (lv_at hl 6 rfl) ?_
  refine lv_iload hx hb dX4_fewest_88 (lv_at hl 7 rfl) ?_
  refine lv_ior hx hb dX4_fewest_90 ?_
  refine k_bind hf (fun v6 hv6 hf => ?_)
  refine m_nmi hv6 ?_
  refine lv_istore (lv' := [(6, .int v6), (5, .int v5), (4, .int (y4 + (1 : Int32))), (3, .int z0), (0, .ref (mo G)), (1, .int y1), (2, .int y2), (7, .int y7)]) hx hb dX4_fewest_91 hl (by decide) rfl (fun ls hl => ?_)
  refine lv_iinc (lv' := [(7, .int (y7 + (1 : Int32))), (6, .int v6), (5, .int v5), (4, .int (y4 + (1 : Int32))), (3, .int z0), (0, .ref (mo G)), (1, .int y1), (2, .int y2)]) hx hb dX4_fewest_93 hl (k := 7) rfl (m_inc (by decide)) (by decide) rfl (fun ls hl => ?_)
  refine lv_goto (tgt := 34) hx hb dX4_fewest_96 (by decide) ?_
  exact hK _ (Option.some.inj hf).symm _ _ _ hR hS (lv_sub (l' := [(0, .ref (mo G)), (1, .int y1), (2, .int y2), (3, .int z0), (4, .int (y4 + (1 : Int32))), (5, .int v5), (6, .int v6), (7, .int (y7 + (1 : Int32)))]) hl [5, 6, 7, 4, 3, 2, 1, 0] rfl)
set_option maxHeartbeats 4000000 in
set_option maxRecDepth 100000 in
theorem wbLX4_fewest_34 {l : Launch} {G : mG} {p : Program} {e : Env} {s : State} {m : MethodId} {args : Array Value} {below : List Frame} {meth : Method} {c : Code} {Q : State → Prop} {y1 : Int32} {y2 : Int32} {σ : mS} {q : Int32 × Int32 × Int32 × Int32 × Int32} {res : (Int32 × Int32 × Int32 × Int32 × Int32) ⊕ (Int32 × Int32 × Int32 × Int32)} (S : mSt G p m c cX4_fewest 8 s args meth (Option.some Jvm.ClassFile.FieldType.int)) (hf : LX4_fewest_34 y1 y2 σ q = some res) (hK : ∀ q, res = Sum.inl q → (∀ (H : Heap) (locs : List Loc) (ls : Array Slot), mR G σ H → va_S (mA G) s.heap H locs → lv_has ls 8 [(0, .ref (mo G)), (1, .int y1), (2, .int y2), (3, .int q.1), (4, .int q.2.1), (5, .int q.2.2.1), (6, .int q.2.2.2.1), (7, .int q.2.2.2.2)] → W p l e (mRm 3 66) s m args below meth c H locs 0 0 Q (F0 m 34 ls []))) (hE99 : ∀ b, res = Sum.inr b → (∀ (H : Heap) (locs : List Loc) (ls : Array Slot), mR G σ H → va_S (mA G) s.heap H locs → lv_has ls 8 [(0, .ref (mo G)), (1, .int y1), (2, .int y2), (3, .int b.1), (4, .int b.2.1), (5, .int b.2.2.1), (6, .int b.2.2.2)] → W p l e (mRm 3 66) s m args below meth c H locs 0 0 Q (F0 m 99 ls []))) : (∀ (H : Heap) (locs : List Loc) (ls : Array Slot), mR G σ H → va_S (mA G) s.heap H locs → lv_has ls 8 [(0, .ref (mo G)), (1, .int y1), (2, .int y2), (3, .int q.1), (4, .int q.2.1), (5, .int q.2.2.1), (6, .int q.2.2.2.1), (7, .int q.2.2.2.2)] → W p l e (mRm 3 66) s m args below meth c H locs 0 0 Q (F0 m 34 ls [])) := by
  replace hf : (if (fX4_all σ) < q.2.2.2.2 then some (Sum.inr (q.1, q.2.1, q.2.2.1, q.2.2.2.1)) else (fX4_bits q.2.2.2.2).bind (fun v3 => if v3 = y2 then (fX4_covers q.2.2.2.2 σ).bind (fun v4 => if v4 = (0 : Int32) then some (Sum.inl (q.1, q.2.1, q.2.2.1, q.2.2.2.1, q.2.2.2.2 + (1 : Int32))) else if q.1 = (-1 : Int32) then JX4_fewest_75 y1 y2 q.2.1 q.2.2.1 q.2.2.2.1 q.2.2.2.2 q.2.2.2.2 σ else JX4_fewest_75 y1 y2 q.2.1 q.2.2.1 q.2.2.2.1 q.2.2.2.2 q.1 σ) else some (Sum.inl (q.1, q.2.1, q.2.2.1, q.2.2.2.1, q.2.2.2.2 + (1 : Int32))))) = some res := hf
  obtain ⟨hx, hb, hml, hown, hts⟩ := S.1.1
  intro H locs ls hR hS hl
  refine lv_iload hx hb dX4_fewest_34 (lv_at hl 7 rfl) ?_
  refine lv_aload_n hx hb dX4_fewest_36 rfl (lv_at hl 0 rfl) ?_
  refine m_call (As := []) (rest := [.int q.2.2.2.2]) S hR hS (met_X4_all rfl) wi_X4_all rfl q2738 ⟨rfl, rfl⟩ ⟨Nat.le_of_ble_eq_true rfl, Nat.le_of_ble_eq_true rfl⟩ rfl hl.1 rfl (Nat.le_of_ble_eq_true rfl) dX4_fewest_37 (fun H locs hR hS => ?_)
  refine lv_icmp_gt (tgt := 99) hx hb dX4_fewest_40 (by decide) (fun c_40 => ?_) (fun c_40 => ?_)
  · replace hf := o_t hf c_40
    exact hE99 _ (Option.some.inj hf).symm _ _ _ hR hS (lv_sub (l' := [(0, .ref (mo G)), (1, .int y1), (2, .int y2), (3, .int q.1), (4, .int q.2.1), (5, .int q.2.2.1), (6, .int q.2.2.2.1)]) hl [0, 1, 2, 3, 4, 5, 6] rfl)
  · replace hf := o_f hf c_40
    refine lv_iload hx hb dX4_fewest_43 (lv_at hl 7 rfl) ?_
    refine k_bind hf (fun v3 hv3 hf => ?_)
    refine s_call (As := [.int q.2.2.2.2]) (rest := []) S.1.1 (met_X4_bits hv3) wi_X4_bits q2712 ⟨rfl, rfl⟩ ⟨Nat.le_of_ble_eq_true rfl, Nat.le_of_ble_eq_true rfl⟩ rfl hl.1 rfl (Nat.le_of_ble_eq_true rfl) dX4_fewest_45 ⟨Nat.zero_le _, Nat.zero_le _⟩ ?_
    refine lv_iload_n hx hb dX4_fewest_48 rfl (lv_at hl 2 rfl) ?_
    refine lv_icmp_ne (tgt := 93) hx hb dX4_fewest_49 (by decide) (fun c_49 => ?_) (fun c_49 => ?_)
    · replace hf := o_f hf c_49
      refine lv_iinc (lv' := [(7, .int (q.2.2.2.2 + (1 : Int32))), (0, .ref (mo G)), (1, .int y1), (2, .int y2), (3, .int q.1), (4, .int q.2.1), (5, .int q.2.2.1), (6, .int q.2.2.2.1)]) hx hb dX4_fewest_93 hl (k := 7) rfl (m_inc (by decide)) (by decide) rfl (fun ls hl => ?_)
      refine lv_goto (tgt := 34) hx hb dX4_fewest_96 (by decide) ?_
      exact hK _ (Option.some.inj hf).symm _ _ _ hR hS (lv_sub (l' := [(0, .ref (mo G)), (1, .int y1), (2, .int y2), (3, .int q.1), (4, .int q.2.1), (5, .int q.2.2.1), (6, .int q.2.2.2.1), (7, .int (q.2.2.2.2 + (1 : Int32)))]) hl [1, 2, 3, 4, 5, 6, 7, 0] rfl)
    · replace hf := o_t hf c_49
      refine lv_aload_n hx hb dX4_fewest_52 rfl (lv_at hl 0 rfl) ?_
      refine lv_iload hx hb dX4_fewest_53 (lv_at hl 7 rfl) ?_
      refine k_bind hf (fun v4 hv4 hf => ?_)
      refine m_call (As := [.int q.2.2.2.2]) (rest := []) S hR hS (met_X4_covers hv4) wi_X4_covers rfl q2746 ⟨rfl, rfl⟩ ⟨Nat.le_of_ble_eq_true rfl, Nat.le_of_ble_eq_true rfl⟩ rfl hl.1 rfl (Nat.le_of_ble_eq_true rfl) dX4_fewest_55 (fun H locs hR hS => ?_)
      refine lv_if_ne (tgt := 64) hx hb dX4_fewest_58 (by decide) (fun c_58 => ?_) (fun c_58 => ?_)
      · replace hf := o_f hf c_58
        refine lv_iload_n hx hb dX4_fewest_64 rfl (lv_at hl 3 rfl) ?_
        refine lv_iconst (v := -1) hx hb dX4_fewest_65 (by decide) ?_
        refine lv_icmp_ne (tgt := 74) hx hb dX4_fewest_66 (by decide) (fun c_66 => ?_) (fun c_66 => ?_)
        · replace hf := o_f hf c_66
          refine lv_iload_n hx hb dX4_fewest_74 rfl (lv_at hl 3 rfl) ?_
          exact wJX4_fewest_75 S hf hK hE99 _ _ _ hR hS (lv_sub (l' := [(0, .ref (mo G)), (1, .int y1), (2, .int y2), (4, .int q.2.1), (5, .int q.2.2.1), (6, .int q.2.2.2.1), (7, .int q.2.2.2.2)]) hl [0, 1, 2, 4, 5, 6, 7] rfl)
        · replace hf := o_t hf c_66
          refine lv_iload hx hb dX4_fewest_69 (lv_at hl 7 rfl) ?_
          refine lv_goto (tgt := 75) hx hb dX4_fewest_71 (by decide) ?_
          exact wJX4_fewest_75 S hf hK hE99 _ _ _ hR hS (lv_sub (l' := [(0, .ref (mo G)), (1, .int y1), (2, .int y2), (4, .int q.2.1), (5, .int q.2.2.1), (6, .int q.2.2.2.1), (7, .int q.2.2.2.2)]) hl [0, 1, 2, 4, 5, 6, 7] rfl)
      · replace hf := o_t hf c_58
        refine lv_goto (tgt := 93) hx hb dX4_fewest_61 (by decide) ?_
        refine lv_iinc (lv' := [(7, .int (q.2.2.2.2 + (1 : Int32))), (0, .ref (mo G)), (1, .int y1), (2, .int y2), (3, .int q.1), (4, .int q.2.1), (5, .int q.2.2.1), (6, .int q.2.2.2.1)]) hx hb dX4_fewest_93 hl (k := 7) rfl (m_inc (by decide)) (by decide) rfl (fun ls hl => ?_)
        refine lv_goto (tgt := 34) hx hb dX4_fewest_96 (by decide) ?_
        exact hK _ (Option.some.inj hf).symm _ _ _ hR hS (lv_sub (l' := [(0, .ref (mo G)), (1, .int y1), (2, .int y2), (3, .int q.1), (4, .int q.2.1), (5, .int q.2.2.1), (6, .int q.2.2.2.1), (7, .int (q.2.2.2.2 + (1 : Int32)))]) hl [1, 2, 3, 4, 5, 6, 7, 0] rfl)
set_option maxHeartbeats 4000000 in
set_option maxRecDepth 100000 in
theorem wLX4_fewest_34 {l : Launch} {G : mG} {p : Program} {e : Env} {s : State} {m : MethodId} {args : Array Value} {below : List Frame} {meth : Method} {c : Code} {Q : State → Prop} {y1 : Int32} {y2 : Int32} {σ : mS} {q : Int32 × Int32 × Int32 × Int32 × Int32} {res : Int32 × Int32 × Int32 × Int32} (S : mSt G p m c cX4_fewest 8 s args meth (Option.some Jvm.ClassFile.FieldType.int)) (h : lpw (LX4_fewest_34 y1 y2 σ) q = some res) (hE99 : ∀ b, res = b → (∀ (H : Heap) (locs : List Loc) (ls : Array Slot), mR G σ H → va_S (mA G) s.heap H locs → lv_has ls 8 [(0, .ref (mo G)), (1, .int y1), (2, .int y2), (3, .int b.1), (4, .int b.2.1), (5, .int b.2.2.1), (6, .int b.2.2.2)] → W p l e (mRm 3 66) s m args below meth c H locs 0 0 Q (F0 m 99 ls []))) : (∀ (H : Heap) (locs : List Loc) (ls : Array Slot), mR G σ H → va_S (mA G) s.heap H locs → lv_has ls 8 [(0, .ref (mo G)), (1, .int y1), (2, .int y2), (3, .int q.1), (4, .int q.2.1), (5, .int q.2.2.1), (6, .int q.2.2.2.1), (7, .int q.2.2.2.2)] → W p l e (mRm 3 66) s m args below meth c H locs 0 0 Q (F0 m 34 ls [])) :=
  lpw_go _ (fun q => (∀ (H : Heap) (locs : List Loc) (ls : Array Slot), mR G σ H → va_S (mA G) s.heap H locs → lv_has ls 8 [(0, .ref (mo G)), (1, .int y1), (2, .int y2), (3, .int q.1), (4, .int q.2.1), (5, .int q.2.2.1), (6, .int q.2.2.2.1), (7, .int q.2.2.2.2)] → W p l e (mRm 3 66) s m args below meth c H locs 0 0 Q (F0 m 34 ls []))) (fun b0 => (∀ b, b0 = b → (∀ (H : Heap) (locs : List Loc) (ls : Array Slot), mR G σ H → va_S (mA G) s.heap H locs → lv_has ls 8 [(0, .ref (mo G)), (1, .int y1), (2, .int y2), (3, .int b.1), (4, .int b.2.1), (5, .int b.2.2.1), (6, .int b.2.2.2)] → W p l e (mRm 3 66) s m args below meth c H locs 0 0 Q (F0 m 99 ls [])))) (fun q x hf hK hX => wbLX4_fewest_34 S hf hK (fun b eb => (hX _ eb) b rfl)) q res h hE99
set_option maxHeartbeats 4000000 in
set_option maxRecDepth 100000 in
theorem met_X4_fewest {l : Launch} {G : mG} {x1 : Int32} {σ : mS} {res : Int32} (hf : fX4_fewest x1 σ = some res) : mMet l yX4_fewest cX4_fewest 8 (Option.some Jvm.ClassFile.FieldType.int) (mRm 3 66) G [.ref (mo G), .int x1] σ (some (.int res)) σ := by
  replace hf : (if (fX4_in x1 (0 : Int32) (4 : Int32)) = (0 : Int32) then some (-2 : Int32) else (fX4_least σ).bind (fun v1 => (some (fX4_all σ)).bind (fun v2 => (lpw (LX4_fewest_34 x1 v1 σ) ((-1 : Int32), (0 : Int32), v2, (0 : Int32), (0 : Int32))).bind (fun b7 => if x1 = (0 : Int32) then some v1 else if x1 = (1 : Int32) then some b7.1 else if x1 = (2 : Int32) then some b7.2.1 else if x1 = (3 : Int32) then some b7.2.2.1 else some ((fX4_all σ) &&& (b7.2.2.2 ^^^ (-1 : Int32))))))) = some res := hf
  refine m_start (by decide) rfl (Nat.le_of_ble_eq_true rfl) ?_
  intro p e s m args below meth c S hR hS ls hl
  obtain ⟨hx, hb, hml, hown, hts⟩ := S.1.1
  have hl : lv_has ls 8 [(0, .ref (mo G)), (1, .int x1)] := hl
  refine lv_iload_n hx hb dX4_fewest_0 rfl (lv_at hl 1 rfl) ?_
  refine lv_iconst (v := 0) hx hb dX4_fewest_1 (by decide) ?_
  refine lv_iconst (v := 4) hx hb dX4_fewest_2 (by decide) ?_
  refine s_call (As := [.int x1, .int (0 : Int32), .int (4 : Int32)]) (rest := []) S.1.1 (met_X4_in rfl) wi_X4_in q2681 ⟨rfl, rfl⟩ ⟨Nat.le_of_ble_eq_true rfl, Nat.le_of_ble_eq_true rfl⟩ rfl hl.1 rfl (Nat.le_of_ble_eq_true rfl) dX4_fewest_3 ⟨Nat.zero_le _, Nat.zero_le _⟩ ?_
  refine lv_if_ne (tgt := 12) hx hb dX4_fewest_6 (by decide) (fun c_6 => ?_) (fun c_6 => ?_)
  · replace hf := o_f hf c_6
    refine lv_aload_n hx hb dX4_fewest_12 rfl (lv_at hl 0 rfl) ?_
    refine k_bind hf (fun v1 hv1 hf => ?_)
    refine m_call (As := []) (rest := []) S hR hS (met_X4_least hv1) wi_X4_least rfl q2765 ⟨rfl, rfl⟩ ⟨Nat.le_of_ble_eq_true rfl, Nat.le_of_ble_eq_true rfl⟩ rfl hl.1 rfl (Nat.le_of_ble_eq_true rfl) dX4_fewest_13 (fun H locs hR hS => ?_)
    refine lv_istore_n (lv' := [(2, .int v1), (0, .ref (mo G)), (1, .int x1)]) hx hb dX4_fewest_16 rfl hl (by decide) rfl (fun ls hl => ?_)
    refine lv_iconst (v := -1) hx hb dX4_fewest_17 (by decide) ?_
    refine lv_istore_n (lv' := [(3, .int (-1 : Int32)), (2, .int v1), (0, .ref (mo G)), (1, .int x1)]) hx hb dX4_fewest_18 rfl hl (by decide) rfl (fun ls hl => ?_)
    refine lv_iconst (v := 0) hx hb dX4_fewest_19 (by decide) ?_
    refine lv_istore (lv' := [(4, .int (0 : Int32)), (3, .int (-1 : Int32)), (2, .int v1), (0, .ref (mo G)), (1, .int x1)]) hx hb dX4_fewest_20 hl (by decide) rfl (fun ls hl => ?_)
    refine lv_aload_n hx hb dX4_fewest_22 rfl (lv_at hl 3 rfl) ?_
    refine m_call (As := []) (rest := []) S hR hS (met_X4_all rfl) wi_X4_all rfl q2738 ⟨rfl, rfl⟩ ⟨Nat.le_of_ble_eq_true rfl, Nat.le_of_ble_eq_true rfl⟩ rfl hl.1 rfl (Nat.le_of_ble_eq_true rfl) dX4_fewest_23 (fun H locs hR hS => ?_)
    refine k_bind hf (fun v2 hv2 hf => ?_)
    refine m_nmi hv2 ?_
    refine lv_istore (lv' := [(5, .int v2), (4, .int (0 : Int32)), (3, .int (-1 : Int32)), (2, .int v1), (0, .ref (mo G)), (1, .int x1)]) hx hb dX4_fewest_26 hl (by decide) rfl (fun ls hl => ?_)
    refine lv_iconst (v := 0) hx hb dX4_fewest_28 (by decide) ?_
    refine lv_istore (lv' := [(6, .int (0 : Int32)), (5, .int v2), (4, .int (0 : Int32)), (3, .int (-1 : Int32)), (2, .int v1), (0, .ref (mo G)), (1, .int x1)]) hx hb dX4_fewest_29 hl (by decide) rfl (fun ls hl => ?_)
    refine lv_iconst (v := 0) hx hb dX4_fewest_31 (by decide) ?_
    refine lv_istore (lv' := [(7, .int (0 : Int32)), (6, .int (0 : Int32)), (5, .int v2), (4, .int (0 : Int32)), (3, .int (-1 : Int32)), (2, .int v1), (0, .ref (mo G)), (1, .int x1)]) hx hb dX4_fewest_32 hl (by decide) rfl (fun ls hl => ?_)
    refine k_bind hf (fun b7 hb7 hf => ?_)
    refine wLX4_fewest_34 S hb7 ?_ _ _ _ hR hS (lv_sub (l' := [(0, .ref (mo G)), (1, .int x1), (2, .int v1), (3, .int (-1 : Int32)), (4, .int (0 : Int32)), (5, .int v2), (6, .int (0 : Int32)), (7, .int (0 : Int32))]) hl [6, 7, 5, 4, 3, 2, 1, 0] rfl)
    · intro b eb; subst eb; intro H locs ls hR hS hl
      refine lv_iload_n hx hb dX4_fewest_99 rfl (lv_at hl 1 rfl) ?_
      by_cases c_100_0 : x1 = (0 : Int32)
      · replace hf := o_t hf c_100_0
        refine lv_tableIn (tgt := 132) hx hb dX4_fewest_100 (by rw [c_100_0]; decide) (by rw [c_100_0]; decide) (by rw [c_100_0]; rfl) (by decide) ?_
        refine lv_iload_n hx hb dX4_fewest_132 rfl (lv_at hl 2 rfl) ?_
        obtain rfl := Option.some.inj hf
        exact m_iret S hR hS rfl dX4_fewest_133
      replace hf := o_f hf c_100_0
      by_cases c_100_1 : x1 = (1 : Int32)
      · replace hf := o_t hf c_100_1
        refine lv_tableIn (tgt := 134) hx hb dX4_fewest_100 (by rw [c_100_1]; decide) (by rw [c_100_1]; decide) (by rw [c_100_1]; rfl) (by decide) ?_
        refine lv_iload_n hx hb dX4_fewest_134 rfl (lv_at hl 3 rfl) ?_
        obtain rfl := Option.some.inj hf
        exact m_iret S hR hS rfl dX4_fewest_135
      replace hf := o_f hf c_100_1
      by_cases c_100_2 : x1 = (2 : Int32)
      · replace hf := o_t hf c_100_2
        refine lv_tableIn (tgt := 136) hx hb dX4_fewest_100 (by rw [c_100_2]; decide) (by rw [c_100_2]; decide) (by rw [c_100_2]; rfl) (by decide) ?_
        refine lv_iload hx hb dX4_fewest_136 (lv_at hl 4 rfl) ?_
        obtain rfl := Option.some.inj hf
        exact m_iret S hR hS rfl dX4_fewest_138
      replace hf := o_f hf c_100_2
      by_cases c_100_3 : x1 = (3 : Int32)
      · replace hf := o_t hf c_100_3
        refine lv_tableIn (tgt := 139) hx hb dX4_fewest_100 (by rw [c_100_3]; decide) (by rw [c_100_3]; decide) (by rw [c_100_3]; rfl) (by decide) ?_
        refine lv_iload hx hb dX4_fewest_139 (lv_at hl 5 rfl) ?_
        obtain rfl := Option.some.inj hf
        exact m_iret S hR hS rfl dX4_fewest_141
      replace hf := o_f hf c_100_3
      refine lv_tableOut (tgt := 142) hx hb dX4_fewest_100 (by have t0 := lv_neT c_100_0 (a := 0) rfl; have t1 := lv_neT c_100_1 (a := 1) rfl; have t2 := lv_neT c_100_2 (a := 2) rfl; have t3 := lv_neT c_100_3 (a := 3) rfl; omega) (by decide) ?_
      refine lv_aload_n hx hb dX4_fewest_142 rfl (lv_at hl 0 rfl) ?_
      refine m_call (As := []) (rest := []) S hR hS (met_X4_all rfl) wi_X4_all rfl q2738 ⟨rfl, rfl⟩ ⟨Nat.le_of_ble_eq_true rfl, Nat.le_of_ble_eq_true rfl⟩ rfl hl.1 rfl (Nat.le_of_ble_eq_true rfl) dX4_fewest_143 (fun H locs hR hS => ?_)
      refine lv_iload hx hb dX4_fewest_146 (lv_at hl 6 rfl) ?_
      refine lv_iconst (v := -1) hx hb dX4_fewest_148 (by decide) ?_
      refine lv_ixor hx hb dX4_fewest_149 ?_
      refine lv_iand hx hb dX4_fewest_150 ?_
      obtain rfl := Option.some.inj hf
      exact m_iret S hR hS rfl dX4_fewest_151
  · replace hf := o_t hf c_6
    refine lv_bipush (v := -2) hx hb dX4_fewest_9 (by decide) ?_
    obtain rfl := Option.some.inj hf
    exact m_iret S hR hS rfl dX4_fewest_11
