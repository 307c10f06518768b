/-! the reference, walked: without turning cut joins payments -/
noncomputable def LX4_without_20 (y1 : Int32) (y2 : Int32) (q : Int32 × mS) : Option ((Int32 × mS) ⊕ (mS)) :=
  if (q.2.1 0) ≤ q.1 then some (Sum.inr q.2) else if (fX4_has y2 q.1) = (0 : Int32) then some (Sum.inl (q.1 + (1 : Int32), q.2)) else (fX4_lays y1 q.1 (0 : Int32) q.2).bind (fun e2 => some (Sum.inl (q.1 + (1 : Int32), e2)))
noncomputable def LX4_without_57 (y1 : Int32) (y2 : Int32) (y3 : Int32) (q : Int32 × mS) : Option ((Int32 × mS) ⊕ (mS)) :=
  if (q.2.1 0) ≤ q.1 then some (Sum.inr q.2) else if (fX4_has y2 q.1) = (0 : Int32) then some (Sum.inl (q.1 + (1 : Int32), q.2)) else (fX4_lays y1 q.1 (1 : Int32) q.2).bind (fun e5 => some (Sum.inl (q.1 + (1 : Int32), e5)))
noncomputable def fX4_without (x1 : Int32) (σ : mS) : Option (Int32 × mS) :=
  if (fX4_isPoint x1 σ) = (0 : Int32) then some ((-2 : Int32), σ) else (mald σ 4 x1).bind (fun v1 => (lpw (LX4_without_20 x1 v1) ((0 : Int32), σ)).bind (fun b3 => (fX4_least b3).bind (fun v4 => (lpw (LX4_without_57 x1 v1 v4) ((0 : Int32), b3)).bind (fun b6 => some (v4, b6)))))
theorem wi_X4_without : wInfV yX4_without cX4_without 5 (Option.some Jvm.ClassFile.FieldType.int) 1 := ⟨q2933, q2934, q116, q2935, (by decide +kernel), (by decide +kernel), (by decide +kernel)⟩
set_option maxHeartbeats 4000000 in
set_option maxRecDepth 100000 in
theorem wbLX4_without_20 {l : Launch} {G : mG} {p : Program} {e : Env} {s : State} {m : MethodId} {args : Array Value} {below : List Frame} {meth : Method} {c : Code} {Q : State → Prop} {y1 : Int32} {y2 : Int32} {q : Int32 × mS} {res : (Int32 × mS) ⊕ (mS)} (S : mSt G p m c cX4_without 5 s args meth (Option.some Jvm.ClassFile.FieldType.int)) (hf : LX4_without_20 y1 y2 q = some res) (hK : ∀ q, res = Sum.inl q → (∀ (H : Heap) (locs : List Loc) (ls : Array Slot), mR G q.2 H → va_S (mA G) s.heap H locs → lv_has ls 5 [(0, .ref (mo G)), (1, .int y1), (2, .int y2), (3, .int q.1)] → W p l e (mRm 3 66) s m args below meth c H locs 0 0 Q (F0 m 20 ls []))) (hE49 : ∀ b, res = Sum.inr b → (∀ (H : Heap) (locs : List Loc) (ls : Array Slot), mR G b H → va_S (mA G) s.heap H locs → lv_has ls 5 [(0, .ref (mo G)), (1, .int y1), (2, .int y2)] → W p l e (mRm 3 66) s m args below meth c H locs 0 0 Q (F0 m 49 ls []))) : (∀ (H : Heap) (locs : List Loc) (ls : Array Slot), mR G q.2 H → va_S (mA G) s.heap H locs → lv_has ls 5 [(0, .ref (mo G)), (1, .int y1), (2, .int y2), (3, .int q.1)] → W p l e (mRm 3 66) s m args below meth c H locs 0 0 Q (F0 m 20 ls [])) := by
  replace hf : (if (q.2.1 0) ≤ q.1 then some (Sum.inr q.2) else if (fX4_has y2 q.1) = (0 : Int32) then some (Sum.inl (q.1 + (1 : Int32), q.2)) else (fX4_lays y1 q.1 (0 : Int32) q.2).bind (fun e2 => some (Sum.inl (q.1 + (1 : Int32), e2)))) = some res := hf
  obtain ⟨hx, hb, hml, hown, hts⟩ := S.1.1
  intro H locs ls hR hS hl
  refine lv_iload_n hx hb dX4_without_20 rfl (lv_at hl 3 rfl) ?_
  refine lv_aload_n hx hb dX4_without_21 rfl (lv_at hl 0 rfl) ?_
  refine m_geti (k := 0) S hR (by decide) (by decide) q2526 dX4_without_22 ?_
  refine lv_icmp_ge (tgt := 49) hx hb dX4_without_25 (by decide) (fun c_25 => ?_) (fun c_25 => ?_)
  · replace hf := o_t hf c_25
    exact hE49 _ (Option.some.inj hf).symm _ _ _ hR hS (lv_sub (l' := [(0, .ref (mo G)), (1, .int y1), (2, .int y2)]) hl [0, 1, 2] rfl)
  · replace hf := o_f hf c_25
    refine lv_iload_n hx hb dX4_without_28 rfl (lv_at hl 2 rfl) ?_
    refine lv_iload_n hx hb dX4_without_29 rfl (lv_at hl 3 rfl) ?_
    refine s_call (As := [.int y2, .int q.1]) (rest := []) S.1.1 (met_X4_has rfl) wi_X4_has q2750 ⟨rfl, rfl⟩ ⟨Nat.le_of_ble_eq_true rfl, Nat.le_of_ble_eq_true rfl⟩ rfl hl.1 rfl (Nat.le_of_ble_eq_true rfl) dX4_without_30 ⟨Nat.zero_le _, Nat.zero_le _⟩ ?_
    refine lv_if_eq (tgt := 43) hx hb dX4_without_33 (by decide) (fun c_33 => ?_) (fun c_33 => ?_)
    · replace hf := o_t hf c_33
      refine lv_iinc (lv' := [(3, .int (q.1 + (1 : Int32))), (0, .ref (mo G)), (1, .int y1), (2, .int y2)]) hx hb dX4_without_43 hl (k := 3) rfl (m_inc (by decide)) (by decide) rfl (fun ls hl => ?_)
      refine lv_goto (tgt := 20) hx hb dX4_without_46 (by decide) ?_
      exact hK _ (Option.some.inj hf).symm _ _ _ hR hS (lv_sub (l' := [(0, .ref (mo G)), (1, .int y1), (2, .int y2), (3, .int (q.1 + (1 : Int32)))]) hl [1, 2, 3, 0] rfl)
    · replace hf := o_f hf c_33
      refine lv_aload_n hx hb dX4_without_36 rfl (lv_at hl 0 rfl) ?_
      refine lv_iload_n hx hb dX4_without_37 rfl (lv_at hl 1 rfl) ?_
      refine lv_iload_n hx hb dX4_without_38 rfl (lv_at hl 3 rfl) ?_
      refine lv_iconst (v := 0) hx hb dX4_without_39 (by decide) ?_
      refine k_bind hf (fun e2 he2 hf => ?_)
      refine m_call (As := [.int y1, .int q.1, .int (0 : Int32)]) (rest := []) S hR hS (met_X4_lays he2) wi_X4_lays rfl q2700 ⟨rfl, rfl⟩ ⟨Nat.le_of_ble_eq_true rfl, Nat.le_of_ble_eq_true rfl⟩ rfl hl.1 rfl (Nat.le_of_ble_eq_true rfl) dX4_without_40 (fun H locs hR hS => ?_)
      refine lv_iinc (lv' := [(3, .int (q.1 + (1 : Int32))), (0, .ref (mo G)), (1, .int y1), (2, .int y2)]) hx hb dX4_without_43 hl (k := 3) rfl (m_inc (by decide)) (by decide) rfl (fun ls hl => ?_)
      refine lv_goto (tgt := 20) hx hb dX4_without_46 (by decide) ?_
      exact hK _ (Option.some.inj hf).symm _ _ _ hR hS (lv_sub (l' := [(0, .ref (mo G)), (1, .int y1), (2, .int y2), (3, .int (q.1 + (1 : Int32)))]) hl [1, 2, 3, 0] rfl)
set_option maxHeartbeats 4000000 in
set_option maxRecDepth 100000 in
theorem wLX4_without_20 {l : Launch} {G : mG} {p : Program} {e : Env} {s : State} {m : MethodId} {args : Array Value} {below : List Frame} {meth : Method} {c : Code} {Q : State → Prop} {y1 : Int32} {y2 : Int32} {q : Int32 × mS} {res : mS} (S : mSt G p m c cX4_without 5 s args meth (Option.some Jvm.ClassFile.FieldType.int)) (h : lpw (LX4_without_20 y1 y2) q = some res) (hE49 : ∀ b, res = b → (∀ (H : Heap) (locs : List Loc) (ls : Array Slot), mR G b H → va_S (mA G) s.heap H locs → lv_has ls 5 [(0, .ref (mo G)), (1, .int y1), (2, .int y2)] → W p l e (mRm 3 66) s m args below meth c H locs 0 0 Q (F0 m 49 ls []))) : (∀ (H : Heap) (locs : List Loc) (ls : Array Slot), mR G q.2 H → va_S (mA G) s.heap H locs → lv_has ls 5 [(0, .ref (mo G)), (1, .int y1), (2, .int y2), (3, .int q.1)] → W p l e (mRm 3 66) s m args below meth c H locs 0 0 Q (F0 m 20 ls [])) :=
  lpw_go _ (fun q => (∀ (H : Heap) (locs : List Loc) (ls : Array Slot), mR G q.2 H → va_S (mA G) s.heap H locs → lv_has ls 5 [(0, .ref (mo G)), (1, .int y1), (2, .int y2), (3, .int q.1)] → W p l e (mRm 3 66) s m args below meth c H locs 0 0 Q (F0 m 20 ls []))) (fun b0 => (∀ b, b0 = b → (∀ (H : Heap) (locs : List Loc) (ls : Array Slot), mR G b H → va_S (mA G) s.heap H locs → lv_has ls 5 [(0, .ref (mo G)), (1, .int y1), (2, .int y2)] → W p l e (mRm 3 66) s m args below meth c H locs 0 0 Q (F0 m 49 ls [])))) (fun q x hf hK hX => wbLX4_without_20 S hf hK (fun b eb => (hX _ eb) b rfl)) q res h hE49
set_option maxHeartbeats 4000000 in
set_option maxRecDepth 100000 in
theorem wbLX4_without_57 {l : Launch} {G : mG} {p : Program} {e : Env} {s : State} {m : MethodId} {args : Array Value} {below : List Frame} {meth : Method} {c : Code} {Q : State → Prop} {y1 : Int32} {y2 : Int32} {y3 : Int32} {q : Int32 × mS} {res : (Int32 × mS) ⊕ (mS)} (S : mSt G p m c cX4_without 5 s args meth (Option.some Jvm.ClassFile.FieldType.int)) (hf : LX4_without_57 y1 y2 y3 q = some res) (hK : ∀ q, res = Sum.inl q → (∀ (H : Heap) (locs : List Loc) (ls : Array Slot), mR G q.2 H → va_S (mA G) s.heap H locs → lv_has ls 5 [(0, .ref (mo G)), (1, .int y1), (2, .int y2), (3, .int y3), (4, .int q.1)] → W p l e (mRm 3 66) s m args below meth c H locs 0 0 Q (F0 m 57 ls []))) (hE89 : ∀ b, res = Sum.inr b → (∀ (H : Heap) (locs : List Loc) (ls : Array Slot), mR G b H → va_S (mA G) s.heap H locs → lv_has ls 5 [(0, .ref (mo G)), (3, .int y3)] → W p l e (mRm 3 66) s m args below meth c H locs 0 0 Q (F0 m 89 ls []))) : (∀ (H : Heap) (locs : List Loc) (ls : Array Slot), mR G q.2 H → va_S (mA G) s.heap H locs → lv_has ls 5 [(0, .ref (mo G)), (1, .int y1), (2, .int y2), (3, .int y3), (4, .int q.1)] → W p l e (mRm 3 66) s m args below meth c H locs 0 0 Q (F0 m 57 ls [])) := by
  replace hf : (if (q.2.1 0) ≤ q.1 then some (Sum.inr q.2) else if (fX4_has y2 q.1) = (0 : Int32) then some (Sum.inl (q.1 + (1 : Int32), q.2)) else (fX4_lays y1 q.1 (1 : Int32) q.2).bind (fun e5 => some (Sum.inl (q.1 + (1 : Int32), e5)))) = some res := hf
  obtain ⟨hx, hb, hml, hown, hts⟩ := S.1.1
  intro H locs ls hR hS hl
  refine lv_iload hx hb dX4_without_57 (lv_at hl 4 rfl) ?_
  refine lv_aload_n hx hb dX4_without_59 rfl (lv_at hl 0 rfl) ?_
  refine m_geti (k := 0) S hR (by decide) (by decide) q2526 dX4_without_60 ?_
  refine lv_icmp_ge (tgt := 89) hx hb dX4_without_63 (by decide) (fun c_63 => ?_) (fun c_63 => ?_)
  · replace hf := o_t hf c_63
    exact hE89 _ (Option.some.inj hf).symm _ _ _ hR hS (lv_sub (l' := [(0, .ref (mo G)), (3, .int y3)]) hl [0, 3] rfl)
  · replace hf := o_f hf c_63
    refine lv_iload_n hx hb dX4_without_66 rfl (lv_at hl 2 rfl) ?_
    refine lv_iload hx hb dX4_without_67 (lv_at hl 4 rfl) ?_
    refine s_call (As := [.int y2, .int q.1]) (rest := []) S.1.1 (met_X4_has rfl) wi_X4_has q2750 ⟨rfl, rfl⟩ ⟨Nat.le_of_ble_eq_true rfl, Nat.le_of_ble_eq_true rfl⟩ rfl hl.1 rfl (Nat.le_of_ble_eq_true rfl) dX4_without_69 ⟨Nat.zero_le _, Nat.zero_le _⟩ ?_
    refine lv_if_eq (tgt := 83) hx hb dX4_without_72 (by decide) (fun c_72 => ?_) (fun c_72 => ?_)
    · replace hf := o_t hf c_72
      refine lv_iinc (lv' := [(4, .int (q.1 + (1 : Int32))), (0, .ref (mo G)), (1, .int y1), (2, .int y2), (3, .int y3)]) hx hb dX4_without_83 hl (k := 4) rfl (m_inc (by decide)) (by decide) rfl (fun ls hl => ?_)
      refine lv_goto (tgt := 57) hx hb dX4_without_86 (by decide) ?_
      exact hK _ (Option.some.inj hf).symm _ _ _ hR hS (lv_sub (l' := [(0, .ref (mo G)), (1, .int y1), (2, .int y2), (3, .int y3), (4, .int (q.1 + (1 : Int32)))]) hl [1, 2, 3, 4, 0] rfl)
    · replace hf := o_f hf c_72
      refine lv_aload_n hx hb dX4_without_75 rfl (lv_at hl 0 rfl) ?_
      refine lv_iload_n hx hb dX4_without_76 rfl (lv_at hl 1 rfl) ?_
      refine lv_iload hx hb dX4_without_77 (lv_at hl 4 rfl) ?_
      refine lv_iconst (v := 1) hx hb dX4_without_79 (by decide) ?_
      refine k_bind hf (fun e5 he5 hf => ?_)
      refine m_call (As := [.int y1, .int q.1, .int (1 : Int32)]) (rest := []) S hR hS (met_X4_lays he5) wi_X4_lays rfl q2700 ⟨rfl, rfl⟩ ⟨Nat.le_of_ble_eq_true rfl, Nat.le_of_ble_eq_true rfl⟩ rfl hl.1 rfl (Nat.le_of_ble_eq_true rfl) dX4_without_80 (fun H locs hR hS => ?_)
      refine lv_iinc (lv' := [(4, .int (q.1 + (1 : Int32))), (0, .ref (mo G)), (1, .int y1), (2, .int y2), (3, .int y3)]) hx hb dX4_without_83 hl (k := 4) rfl (m_inc (by decide)) (by decide) rfl (fun ls hl => ?_)
      refine lv_goto (tgt := 57) hx hb dX4_without_86 (by decide) ?_
      exact hK _ (Option.some.inj hf).symm _ _ _ hR hS (lv_sub (l' := [(0, .ref (mo G)), (1, .int y1), (2, .int y2), (3, .int y3), (4, .int (q.1 + (1 : Int32)))]) hl [1, 2, 3, 4, 0] rfl)
set_option maxHeartbeats 4000000 in
set_option maxRecDepth 100000 in
theorem wLX4_without_57 {l : Launch} {G : mG} {p : Program} {e : Env} {s : State} {m : MethodId} {args : Array Value} {below : List Frame} {meth : Method} {c : Code} {Q : State → Prop} {y1 : Int32} {y2 : Int32} {y3 : Int32} {q : Int32 × mS} {res : mS} (S : mSt G p m c cX4_without 5 s args meth (Option.some Jvm.ClassFile.FieldType.int)) (h : lpw (LX4_without_57 y1 y2 y3) q = some res) (hE89 : ∀ b, res = b → (∀ (H : Heap) (locs : List Loc) (ls : Array Slot), mR G b H → va_S (mA G) s.heap H locs → lv_has ls 5 [(0, .ref (mo G)), (3, .int y3)] → W p l e (mRm 3 66) s m args below meth c H locs 0 0 Q (F0 m 89 ls []))) : (∀ (H : Heap) (locs : List Loc) (ls : Array Slot), mR G q.2 H → va_S (mA G) s.heap H locs → lv_has ls 5 [(0, .ref (mo G)), (1, .int y1), (2, .int y2), (3, .int y3), (4, .int q.1)] → W p l e (mRm 3 66) s m args below meth c H locs 0 0 Q (F0 m 57 ls [])) :=
  lpw_go _ (fun q => (∀ (H : Heap) (locs : List Loc) (ls : Array Slot), mR G q.2 H → va_S (mA G) s.heap H locs → lv_has ls 5 [(0, .ref (mo G)), (1, .int y1), (2, .int y2), (3, .int y3), (4, .int q.1)] → W p l e (mRm 3 66) s m args below meth c H locs 0 0 Q (F0 m 57 ls []))) (fun b0 => (∀ b, b0 = b → (∀ (H : Heap) (locs : List Loc) (ls : Array Slot), mR G b H → va_S (mA G) s.heap H locs → lv_has ls 5 [(0, .ref (mo G)), (3, .int y3)] → W p l e (mRm 3 66) s m args below meth c H locs 0 0 Q (F0 m 89 ls [])))) (fun q x hf hK hX => wbLX4_without_57 S hf hK (fun b eb => (hX _ eb) b rfl)) q res h hE89
set_option maxHeartbeats 4000000 in
set_option maxRecDepth 100000 in
theorem met_X4_without {l : Launch} {G : mG} {x1 : Int32} {σ : mS} {res : Int32 × mS} (hf : fX4_without x1 σ = some res) : mMet l yX4_without cX4_without 5 (Option.some Jvm.ClassFile.FieldType.int) (mRm 3 66) G [.ref (mo G), .int x1] σ (some (.int res.1)) res.2 := by
  replace hf : (if (fX4_isPoint x1 σ) = (0 : Int32) then some ((-2 : Int32), σ) else (mald σ 4 x1).bind (fun v1 => (lpw (LX4_without_20 x1 v1) ((0 : Int32), σ)).bind (fun b3 => (fX4_least b3).bind (fun v4 => (lpw (LX4_without_57 x1 v1 v4) ((0 : Int32), b3)).bind (fun b6 => some (v4, b6)))))) = some res := hf
  refine m_start (by decide) rfl (Nat.le_of_ble_eq_true rfl) ?_
  intro p e s m args below meth c S hR hS ls hl
  obtain ⟨hx, hb, hml, hown, hts⟩ := S.1.1
  have hl : lv_has ls 5 [(0, .ref (mo G)), (1, .int x1)] := hl
  refine lv_aload_n hx hb dX4_without_0 rfl (lv_at hl 0 rfl) ?_
  refine lv_iload_n hx hb dX4_without_1 rfl (lv_at hl 1 rfl) ?_
  refine m_call (As := [.int x1]) (rest := []) S hR hS (met_X4_isPoint rfl) wi_X4_isPoint rfl q2696 ⟨rfl, rfl⟩ ⟨Nat.le_of_ble_eq_true rfl, Nat.le_of_ble_eq_true rfl⟩ rfl hl.1 rfl (Nat.le_of_ble_eq_true rfl) dX4_without_2 (fun H locs hR hS => ?_)
  refine lv_if_ne (tgt := 11) hx hb dX4_without_5 (by decide) (fun c_5 => ?_) (fun c_5 => ?_)
  · replace hf := o_f hf c_5
    refine lv_aload_n hx hb dX4_without_11 rfl (lv_at hl 0 rfl) ?_
    refine m_geta (k := 4) S hR (by decide) (by decide) q2530 dX4_without_12 ?_
    refine lv_iload_n hx hb dX4_without_15 rfl (lv_at hl 1 rfl) ?_
    refine k_bind hf (fun v1 hv1 hf => ?_)
    refine m_iald S hR hv1 dX4_without_16 ?_
    refine lv_istore_n (lv' := [(2, .int v1), (0, .ref (mo G)), (1, .int x1)]) hx hb dX4_without_17 rfl hl (by decide) rfl (fun ls hl => ?_)
    refine lv_iconst (v := 0) hx hb dX4_without_18 (by decide) ?_
    refine lv_istore_n (lv' := [(3, .int (0 : Int32)), (2, .int v1), (0, .ref (mo G)), (1, .int x1)]) hx hb dX4_without_19 rfl hl (by decide) rfl (fun ls hl => ?_)
    refine k_bind hf (fun b3 hb3 hf => ?_)
    refine wLX4_without_20 S hb3 ?_ _ _ _ hR hS (lv_sub (l' := [(0, .ref (mo G)), (1, .int x1), (2, .int v1), (3, .int (0 : Int32))]) hl [2, 3, 1, 0] rfl)
    · intro b eb; subst eb; intro H locs ls hR hS hl
      refine lv_aload_n hx hb dX4_without_49 rfl (lv_at hl 0 rfl) ?_
      refine k_bind hf (fun v4 hv4 hf => ?_)
      refine m_call (As := []) (rest := []) S hR hS (met_X4_least hv4) wi_X4_least rfl q2765 ⟨rfl, rfl⟩ ⟨Nat.le_of_ble_eq_true rfl, Nat.le_of_ble_eq_true rfl⟩ rfl hl.1 rfl (Nat.le_of_ble_eq_true rfl) dX4_without_50 (fun H locs hR hS => ?_)
      refine lv_istore_n (lv' := [(3, .int v4), (0, .ref (mo G)), (1, .int x1), (2, .int v1)]) hx hb dX4_without_53 rfl hl (by decide) rfl (fun ls hl => ?_)
      refine lv_iconst (v := 0) hx hb dX4_without_54 (by decide) ?_
      refine lv_istore (lv' := [(4, .int (0 : Int32)), (3, .int v4), (0, .ref (mo G)), (1, .int x1), (2, .int v1)]) hx hb dX4_without_55 hl (by decide) rfl (fun ls hl => ?_)
      refine k_bind hf (fun b6 hb6 hf => ?_)
      refine wLX4_without_57 S hb6 ?_ _ _ _ hR hS (lv_sub (l' := [(0, .ref (mo G)), (1, .int x1), (2, .int v1), (3, .int v4), (4, .int (0 : Int32))]) hl [2, 3, 4, 1, 0] rfl)
      · intro b eb; subst eb; intro H locs ls hR hS hl
        refine lv_iload_n hx hb dX4_without_89 rfl (lv_at hl 1 rfl) ?_
        obtain rfl := Option.some.inj hf
        exact m_iret S hR hS rfl dX4_without_90
  · replace hf := o_t hf c_5
    refine lv_bipush (v := -2) hx hb dX4_without_8 (by decide) ?_
    obtain rfl := Option.some.inj hf
    exact m_iret S hR hS rfl dX4_without_10

noncomputable def LX4_turning_30 (y1 : Int32) (y2 : Int32) (y3 : Int32) (y4 : Int32) (y7 : Int32) (q : Int32 × Int32 × Int32 × mS) : Option ((Int32 × Int32 × Int32 × mS) ⊕ (Int32 × Int32 × mS)) :=
  if (q.2.2.2.1 0) ≤ q.2.2.1 then some (Sum.inr (q.1, q.2.1, q.2.2.2)) else (mald q.2.2.2 4 y7).bind (fun v3 => if ((isr v3 q.2.2.1) &&& (1 : Int32)) = y1 then (fX4_lays y7 q.2.2.1 ((1 : Int32) - y1) q.2.2.2).bind (fun e4 => (fX4_least e4).bind (fun v5 => (fX4_lays y7 q.2.2.1 y1 e4).bind (fun e6 => if v5 = (y4 + y2) then if q.1 = (-1 : Int32) then (some (((12 : Int32) * y7) + q.2.2.1)).bind (fun v7 => some (Sum.inl (v7, q.2.1 + (1 : Int32), q.2.2.1 + (1 : Int32), e6))) else some (Sum.inl (q.1, q.2.1 + (1 : Int32), q.2.2.1 + (1 : Int32), e6)) else some (Sum.inl (q.1, q.2.1, q.2.2.1 + (1 : Int32), e6))))) else some (Sum.inl (q.1, q.2.1, q.2.2.1 + (1 : Int32), q.2.2.2)))
noncomputable def LX4_turning_15 (y1 : Int32) (y2 : Int32) (y3 : Int32) (y4 : Int32) (q : Int32 × Int32 × Int32 × mS) : Option ((Int32 × Int32 × Int32 × mS) ⊕ (Int32 × Int32 × mS)) :=
  if (q.2.2.2.1 0) ≤ q.2.2.1 then some (Sum.inr (q.1, q.2.1, q.2.2.2)) else (some (q.2.2.1 + (1 : Int32))).bind (fun v2 => (lpw (LX4_turning_30 y1 y2 y3 y4 q.2.2.1) (q.1, q.2.1, v2, q.2.2.2)).bind (fun b8 => some (Sum.inl (b8.1, b8.2.1, q.2.2.1 + (1 : Int32), b8.2.2))))
noncomputable def fX4_turning (x1 : Int32) (x2 : Int32) (x3 : Int32) (σ : mS) : Option (Int32 × mS) :=
  (fX4_least σ).bind (fun v1 => (lpw (LX4_turning_15 x1 x2 x3 v1) ((-1 : Int32), (0 : Int32), (0 : Int32), σ)).bind (fun b9 => if x3 = (0 : Int32) then some (b9.1, b9.2.2) else some (b9.2.1, b9.2.2)))
theorem wi_X4_turning : wInfV yX4_turning cX4_turning 10 (Option.some Jvm.ClassFile.FieldType.int) 3 := ⟨q2942, qs88, q116, q2943, (by decide +kernel), (by decide +kernel), (by decide +kernel)⟩
set_option maxHeartbeats 4000000 in
set_option maxRecDepth 100000 in
theorem wbLX4_turning_30 {l : Launch} {G : mG} {p : Program} {e : Env} {s : State} {m : MethodId} {args : Array Value} {below : List Frame} {meth : Method} {c : Code} {Q : State → Prop} {y1 : Int32} {y2 : Int32} {y3 : Int32} {y4 : Int32} {y7 : Int32} {q : Int32 × Int32 × Int32 × mS} {res : (Int32 × Int32 × Int32 × mS) ⊕ (Int32 × Int32 × mS)} (S : mSt G p m c cX4_turning 10 s args meth (Option.some Jvm.ClassFile.FieldType.int)) (hf : LX4_turning_30 y1 y2 y3 y4 y7 q = some res) (hK : ∀ q, res = Sum.inl q → (∀ (H : Heap) (locs : List Loc) (ls : Array Slot), mR G q.2.2.2 H → va_S (mA G) s.heap H locs → lv_has ls 10 [(0, .ref (mo G)), (1, .int y1), (2, .int y2), (3, .int y3), (4, .int y4), (5, .int q.1), (6, .int q.2.1), (7, .int y7), (8, .int q.2.2.1)] → W p l e (mRm 3 66) s m args below meth c H locs 0 0 Q (F0 m 30 ls []))) (hE126 : ∀ b, res = Sum.inr b → (∀ (H : Heap) (locs : List Loc) (ls : Array Slot), mR G b.2.2 H → va_S (mA G) s.heap H locs → lv_has ls 10 [(0, .ref (mo G)), (1, .int y1), (2, .int y2), (3, .int y3), (4, .int y4), (5, .int b.1), (6, .int b.2.1), (7, .int y7)] → W p l e (mRm 3 66) s m args below meth c H locs 0 0 Q (F0 m 126 ls []))) : (∀ (H : Heap) (locs : List Loc) (ls : Array Slot), mR G q.2.2.2 H → va_S (mA G) s.heap H locs → lv_has ls 10 [(0, .ref (mo G)), (1, .int y1), (2, .int y2), (3, .int y3), (4, .int y4), (5, .int q.1), (6, .int q.2.1), (7, .int y7), (8, .int q.2.2.1)] → W p l e (mRm 3 66) s m args below meth c H locs 0 0 Q (F0 m 30 ls [])) := by
  replace hf : (if (q.2.2.2.1 0) ≤ q.2.2.1 then some (Sum.inr (q.1, q.2.1, q.2.2.2)) else (mald q.2.2.2 4 y7).bind (fun v3 => if ((isr v3 q.2.2.1) &&& (1 : Int32)) = y1 then (fX4_lays y7 q.2.2.1 ((1 : Int32) - y1) q.2.2.2).bind (fun e4 => (fX4_least e4).bind (fun v5 => (fX4_lays y7 q.2.2.1 y1 e4).bind (fun e6 => if v5 = (y4 + y2) then if q.1 = (-1 : Int32) then (some (((12 : Int32) * y7) + q.2.2.1)).bind (fun v7 => some (Sum.inl (v7, q.2.1 + (1 : Int32), q.2.2.1 + (1 : Int32), e6))) else some (Sum.inl (q.1, q.2.1 + (1 : Int32), q.2.2.1 + (1 : Int32), e6)) else some (Sum.inl (q.1, q.2.1, q.2.2.1 + (1 : Int32), e6))))) else some (Sum.inl (q.1, q.2.1, q.2.2.1 + (1 : Int32), q.2.2.2)))) = some res := hf
  obtain ⟨hx, hb, hml, hown, hts⟩ := S.1.1
  intro H locs ls hR hS hl
  refine lv_iload hx hb dX4_turning_30 (lv_at hl 8 rfl) ?_
  refine lv_aload_n hx hb dX4_turning_32 rfl (lv_at hl 0 rfl) ?_
  refine m_geti (k := 0) S hR (by decide) (by decide) q2526 dX4_turning_33 ?_
  refine lv_icmp_ge (tgt := 126) hx hb dX4_turning_36 (by decide) (fun c_36 => ?_) (fun c_36 => ?_)
  · replace hf := o_t hf c_36
    exact hE126 _ (Option.some.inj hf).symm _ _ _ hR hS (lv_sub (l' := [(0, .ref (mo G)), (1, .int y1), (2, .int y2), (3, .int y3), (4, .int y4), (5, .int q.1), (6, .int q.2.1), (7, .int y7)]) hl [0, 1, 2, 3, 4, 5, 6, 7] rfl)
  · replace hf := o_f hf c_36
    refine lv_aload_n hx hb dX4_turning_39 rfl (lv_at hl 0 rfl) ?_
    refine m_geta (k := 4) S hR (by decide) (by decide) q2530 dX4_turning_40 ?_
    refine lv_iload hx hb dX4_turning_43 (lv_at hl 7 rfl) ?_
    refine k_bind hf (fun v3 hv3 hf => ?_)
    refine m_iald S hR hv3 dX4_turning_45 ?_
    refine lv_iload hx hb dX4_turning_46 (lv_at hl 8 rfl) ?_
    refine lv_ishr hx hb dX4_turning_48 ?_
    refine lv_iconst (v := 1) hx hb dX4_turning_49 (by decide) ?_
    refine lv_iand hx hb dX4_turning_50 ?_
    refine lv_iload_n hx hb dX4_turning_51 rfl (lv_at hl 1 rfl) ?_
    refine lv_icmp_eq (tgt := 58) hx hb dX4_turning_52 (by decide) (fun c_52 => ?_) (fun c_52 => ?_)
    · replace hf := o_t hf c_52
      refine lv_aload_n hx hb dX4_turning_58 rfl (lv_at hl 0 rfl) ?_
      refine lv_iload hx hb dX4_turning_59 (lv_at hl 7 rfl) ?_
      refine lv_iload hx hb dX4_turning_61 (lv_at hl 8 rfl) ?_
      refine lv_iconst (v := 1) hx hb dX4_turning_63 (by decide) ?_
      refine lv_iload_n hx hb dX4_turning_64 rfl (lv_at hl 1 rfl) ?_
      refine lv_isub hx hb dX4_turning_65 ?_
      refine k_bind hf (fun e4 he4 hf => ?_)
      refine m_call (As := [.int y7, .int q.2.2.1, .int ((1 : Int32) - y1)]) (rest := []) S hR hS (met_X4_lays he4) wi_X4_lays rfl q2700 ⟨rfl, rfl⟩ ⟨Nat.le_of_ble_eq_true rfl, Nat.le_of_ble_eq_true rfl⟩ rfl hl.1 rfl (Nat.le_of_ble_eq_true rfl) dX4_turning_66 (fun H locs hR hS => ?_)
      refine lv_aload_n hx hb dX4_turning_69 rfl (lv_at hl 0 rfl) ?_
      refine k_bind hf (fun v5 hv5 hf => ?_)
      refine m_call (As := []) (rest := []) S hR hS (met_X4_least hv5) wi_X4_least rfl q2765 ⟨rfl, rfl⟩ ⟨Nat.le_of_ble_eq_true rfl, Nat.le_of_ble_eq_true rfl⟩ rfl hl.1 rfl (Nat.le_of_ble_eq_true rfl) dX4_turning_70 (fun H locs hR hS => ?_)
      refine lv_istore (lv' := [(9, .int v5), (0, .ref (mo G)), (1, .int y1), (2, .int y2), (3, .int y3), (4, .int y4), (5, .int q.1), (6, .int q.2.1), (7, .int y7), (8, .int q.2.2.1)]) hx hb dX4_turning_73 hl (by decide) rfl (fun ls hl => ?_)
      refine lv_aload_n hx hb dX4_turning_75 rfl (lv_at hl 1 rfl) ?_
      refine lv_iload hx hb dX4_turning_76 (lv_at hl 8 rfl) ?_
      refine lv_iload hx hb dX4_turning_78 (lv_at hl 9 rfl) ?_
      refine lv_iload_n hx hb dX4_turning_80 rfl (lv_at hl 2 rfl) ?_
      refine k_bind hf (fun e6 he6 hf => ?_)
      refine m_call (As := [.int y7, .int q.2.2.1, .int y1]) (rest := []) S hR hS (met_X4_lays he6) wi_X4_lays rfl q2700 ⟨rfl, rfl⟩ ⟨Nat.le_of_ble_eq_true rfl, Nat.le_of_ble_eq_true rfl⟩ rfl hl.1 rfl (Nat.le_of_ble_eq_true rfl) dX4_turning_81 (fun H locs hR hS => ?_)
      refine lv_iload hx hb dX4_turning_84 (lv_at hl 0 rfl) ?_
      refine lv_iload hx hb dX4_turning_86 (lv_at hl 5 rfl) ?_
      refine lv_iload_n hx hb dX4_turning_88 rfl (lv_at hl 3 rfl) ?_
      refine lv_iadd hx hb dX4_turning_89 ?_
      refine lv_icmp_eq (tgt := 96) hx hb dX4_turning_90 (by decide) (fun c_90 => ?_) (fun c_90 => ?_)
      · replace hf := o_t hf c_90
        refine lv_iload hx hb dX4_turning_96 (lv_at hl 6 rfl) ?_
        refine lv_iconst (v := -1) hx hb dX4_turning_98 (by decide) ?_
        refine lv_icmp_ne (tgt := 113) hx hb dX4_turning_99 (by decide) (fun c_99 => ?_) (fun c_99 => ?_)
        · replace hf := o_f hf c_99
          refine lv_iload hx hb dX4_turning_113 (lv_at hl 6 rfl) ?_
          refine lv_istore (lv' := [(5, .int q.1), (9, .int v5), (0, .ref (mo G)), (1, .int y1), (2, .int y2), (3, .int y3), (4, .int y4), (6, .int q.2.1), (7, .int y7), (8, .int q.2.2.1)]) hx hb dX4_turning_115 hl (by decide) rfl (fun ls hl => ?_)
          refine lv_iinc (lv' := [(6, .int (q.2.1 + (1 : Int32))), (5, .int q.1), (9, .int v5), (0, .ref (mo G)), (1, .int y1), (2, .int y2), (3, .int y3), (4, .int y4), (7, .int y7), (8, .int q.2.2.1)]) hx hb dX4_turning_117 hl (k := 7) rfl (m_inc (by decide)) (by decide) rfl (fun ls hl => ?_)
          refine lv_iinc (lv' := [(8, .int (q.2.2.1 + (1 : Int32))), (6, .int (q.2.1 + (1 : Int32))), (5, .int q.1), (9, .int v5), (0, .ref (mo G)), (1, .int y1), (2, .int y2), (3, .int y3), (4, .int y4), (7, .int y7)]) hx hb dX4_turning_120 hl (k := 9) rfl (m_inc (by decide)) (by decide) rfl (fun ls hl => ?_)
          refine lv_goto (tgt := 30) hx hb dX4_turning_123 (by decide) ?_
          exact hK _ (Option.some.inj hf).symm _ _ _ hR hS (lv_sub (l' := [(0, .ref (mo G)), (1, .int y1), (2, .int y2), (3, .int y3), (4, .int y4), (5, .int q.1), (6, .int (q.2.1 + (1 : Int32))), (7, .int y7), (8, .int (q.2.2.1 + (1 : Int32)))]) hl [4, 5, 6, 7, 8, 2, 1, 9, 0] rfl)
        · replace hf := o_t hf c_99
          refine lv_bipush (v := 12) hx hb dX4_turning_102 (by decide) ?_
          refine lv_iload hx hb dX4_turning_104 (lv_at hl 8 rfl) ?_
          refine lv_imul hx hb dX4_turning_106 ?_
          refine lv_iload hx hb dX4_turning_107 (lv_at hl 9 rfl) ?_
          refine lv_iadd hx hb dX4_turning_109 ?_
          refine lv_goto (tgt := 115) hx hb dX4_turning_110 (by decide) ?_
          refine k_bind hf (fun v7 hv7 hf => ?_)
          refine m_nmi hv7 ?_
          refine lv_istore (lv' := [(5, .int v7), (9, .int v5), (0, .ref (mo G)), (1, .int y1), (2, .int y2), (3, .int y3), (4, .int y4), (6, .int q.2.1), (7, .int y7), (8, .int q.2.2.1)]) hx hb dX4_turning_115 hl (by decide) rfl (fun ls hl => ?_)
          refine lv_iinc (lv' := [(6, .int (q.2.1 + (1 : Int32))), (5, .int v7), (9, .int v5), (0, .ref (mo G)), (1, .int y1), (2, .int y2), (3, .int y3), (4, .int y4), (7, .int y7), (8, .int q.2.2.1)]) hx hb dX4_turning_117 hl (k := 7) rfl (m_inc (by decide)) (by decide) rfl (fun ls hl => ?_)
          refine lv_iinc (lv' := [(8, .int (q.2.2.1 + (1 : Int32))), (6, .int (q.2.1 + (1 : Int32))), (5, .int v7), (9, .int v5), (0, .ref (mo G)), (1, .int y1), (2, .int y2), (3, .int y3), (4, .int y4), (7, .int y7)]) hx hb dX4_turning_120 hl (k := 9) rfl (m_inc (by decide)) (by decide) rfl (fun ls hl => ?_)
          refine lv_goto (tgt := 30) hx hb dX4_turning_123 (by decide) ?_
          exact hK _ (Option.some.inj hf).symm _ _ _ hR hS (lv_sub (l' := [(0, .ref (mo G)), (1, .int y1), (2, .int y2), (3, .int y3), (4, .int y4), (5, .int v7), (6, .int (q.2.1 + (1 : Int32))), (7, .int y7), (8, .int (q.2.2.1 + (1 : Int32)))]) hl [4, 5, 6, 7, 8, 2, 1, 9, 0] rfl)
      · replace hf := o_f hf c_90
        refine lv_goto (tgt := 120) hx hb dX4_turning_93 (by decide) ?_
        refine lv_iinc (lv' := [(8, .int (q.2.2.1 + (1 : Int32))), (9, .int v5), (0, .ref (mo G)), (1, .int y1), (2, .int y2), (3, .int y3), (4, .int y4), (5, .int q.1), (6, .int q.2.1), (7, .int y7)]) hx hb dX4_turning_120 hl (k := 9) rfl (m_inc (by decide)) (by decide) rfl (fun ls hl => ?_)
        refine lv_goto (tgt := 30) hx hb dX4_turning_123 (by decide) ?_
        exact hK _ (Option.some.inj hf).symm _ _ _ hR hS (lv_sub (l' := [(0, .ref (mo G)), (1, .int y1), (2, .int y2), (3, .int y3), (4, .int y4), (5, .int q.1), (6, .int q.2.1), (7, .int y7), (8, .int (q.2.2.1 + (1 : Int32)))]) hl [2, 3, 4, 5, 6, 7, 8, 9, 0] rfl)
    · replace hf := o_f hf c_52
      refine lv_goto (tgt := 120) hx hb dX4_turning_55 (by decide) ?_
      refine lv_iinc (lv' := [(8, .int (q.2.2.1 + (1 : Int32))), (0, .ref (mo G)), (1, .int y1), (2, .int y2), (3, .int y3), (4, .int y4), (5, .int q.1), (6, .int q.2.1), (7, .int y7)]) hx hb dX4_turning_120 hl (k := 8) rfl (m_inc (by decide)) (by decide) rfl (fun ls hl => ?_)
      refine lv_goto (tgt := 30) hx hb dX4_turning_123 (by decide) ?_
      exact hK _ (Option.some.inj hf).symm _ _ _ hR hS (lv_sub (l' := [(0, .ref (mo G)), (1, .int y1), (2, .int y2), (3, .int y3), (4, .int y4), (5, .int q.1), (6, .int q.2.1), (7, .int y7), (8, .int (q.2.2.1 + (1 : Int32)))]) hl [1, 2, 3, 4, 5, 6, 7, 8, 0] rfl)
set_option maxHeartbeats 4000000 in
set_option maxRecDepth 100000 in
theorem wLX4_turning_30 {l : Launch} {G : mG} {p : Program} {e : Env} {s : State} {m : MethodId} {args : Array Value} {below : List Frame} {meth : Method} {c : Code} {Q : State → Prop} {y1 : Int32} {y2 : Int32} {y3 : Int32} {y4 : Int32} {y7 : Int32} {q : Int32 × Int32 × Int32 × mS} {res : Int32 × Int32 × mS} (S : mSt G p m c cX4_turning 10 s args meth (Option.some Jvm.ClassFile.FieldType.int)) (h : lpw (LX4_turning_30 y1 y2 y3 y4 y7) q = some res) (hE126 : ∀ b, res = b → (∀ (H : Heap) (locs : List Loc) (ls : Array Slot), mR G b.2.2 H → va_S (mA G) s.heap H locs → lv_has ls 10 [(0, .ref (mo G)), (1, .int y1), (2, .int y2), (3, .int y3), (4, .int y4), (5, .int b.1), (6, .int b.2.1), (7, .int y7)] → W p l e (mRm 3 66) s m args below meth c H locs 0 0 Q (F0 m 126 ls []))) : (∀ (H : Heap) (locs : List Loc) (ls : Array Slot), mR G q.2.2.2 H → va_S (mA G) s.heap H locs → lv_has ls 10 [(0, .ref (mo G)), (1, .int y1), (2, .int y2), (3, .int y3), (4, .int y4), (5, .int q.1), (6, .int q.2.1), (7, .int y7), (8, .int q.2.2.1)] → W p l e (mRm 3 66) s m args below meth c H locs 0 0 Q (F0 m 30 ls [])) :=
  lpw_go _ (fun q => (∀ (H : Heap) (locs : List Loc) (ls : Array Slot), mR G q.2.2.2 H → va_S (mA G) s.heap H locs → lv_has ls 10 [(0, .ref (mo G)), (1, .int y1), (2, .int y2), (3, .int y3), (4, .int y4), (5, .int q.1), (6, .int q.2.1), (7, .int y7), (8, .int q.2.2.1)] → W p l e (mRm 3 66) s m args below meth c H locs 0 0 Q (F0 m 30 ls []))) (fun b0 => (∀ b, b0 = b → (∀ (H : Heap) (locs : List Loc) (ls : Array Slot), mR G b.2.2 H → va_S (mA G) s.heap H locs → lv_has ls 10 [(0, .ref (mo G)), (1, .int y1), (2, .int y2), (3, .int y3), (4, .int y4), (5, .int b.1), (6, .int b.2.1), (7, .int y7)] → W p l e (mRm 3 66) s m args below meth c H locs 0 0 Q (F0 m 126 ls [])))) (fun q x hf hK hX => wbLX4_turning_30 S hf hK (fun b eb => (hX _ eb) b rfl)) q res h hE126
set_option maxHeartbeats 4000000 in
set_option maxRecDepth 100000 in
theorem wbLX4_turning_15 {l : Launch} {G : mG} {p : Program} {e : Env} {s : State} {m : MethodId} {args : Array Value} {below : List Frame} {meth : Method} {c : Code} {Q : State → Prop} {y1 : Int32} {y2 : Int32} {y3 : Int32} {y4 : Int32} {q : Int32 × Int32 × Int32 × mS} {res : (Int32 × Int32 × Int32 × mS) ⊕ (Int32 × Int32 × mS)} (S : mSt G p m c cX4_turning 10 s args meth (Option.some Jvm.ClassFile.FieldType.int)) (hf : LX4_turning_15 y1 y2 y3 y4 q = some res) (hK : ∀ q, res = Sum.inl q → (∀ (H : Heap) (locs : List Loc) (ls : Array Slot), mR G q.2.2.2 H → va_S (mA G) s.heap H locs → lv_has ls 10 [(0, .ref (mo G)), (1, .int y1), (2, .int y2), (3, .int y3), (4, .int y4), (5, .int q.1), (6, .int q.2.1), (7, .int q.2.2.1)] → W p l e (mRm 3 66) s m args below meth c H locs 0 0 Q (F0 m 15 ls []))) (hE132 : ∀ b, res = Sum.inr b → (∀ (H : Heap) (locs : List Loc) (ls : Array Slot), mR G b.2.2 H → va_S (mA G) s.heap H locs → lv_has ls 10 [(0, .ref (mo G)), (3, .int y3), (5, .int b.1), (6, .int b.2.1)] → W p l e (mRm 3 66) s m args below meth c H locs 0 0 Q (F0 m 132 ls []))) : (∀ (H : Heap) (locs : List Loc) (ls : Array Slot), mR G q.2.2.2 H → va_S (mA G) s.heap H locs → lv_has ls 10 [(0, .ref (mo G)), (1, .int y1), (2, .int y2), (3, .int y3), (4, .int y4), (5, .int q.1), (6, .int q.2.1), (7, .int q.2.2.1)] → W p l e (mRm 3 66) s m args below meth c H locs 0 0 Q (F0 m 15 ls [])) := by
  replace hf : (if (q.2.2.2.1 0) ≤ q.2.2.1 then some (Sum.inr (q.1, q.2.1, q.2.2.2)) else (some (q.2.2.1 + (1 : Int32))).bind (fun v2 => (lpw (LX4_turning_30 y1 y2 y3 y4 q.2.2.1) (q.1, q.2.1, v2, q.2.2.2)).bind (fun b8 => some (Sum.inl (b8.1, b8.2.1, q.2.2.1 + (1 : Int32), b8.2.2))))) = some res := hf
  obtain ⟨hx, hb, hml, hown, hts⟩ := S.1.1
  intro H locs ls hR hS hl
  refine lv_iload hx hb dX4_turning_15 (lv_at hl 7 rfl) ?_
  refine lv_aload_n hx hb dX4_turning_17 rfl (lv_at hl 0 rfl) ?_
  refine m_geti (k := 0) S hR (by decide) (by decide) q2526 dX4_turning_18 ?_
  refine lv_icmp_ge (tgt := 132) hx hb dX4_turning_21 (by decide) (fun c_21 => ?_) (fun c_21 => ?_)
  · replace hf := o_t hf c_21
    exact hE132 _ (Option.some.inj hf).symm _ _ _ hR hS (lv_sub (l' := [(0, .ref (mo G)), (3, .int y3), (5, .int q.1), (6, .int q.2.1)]) hl [0, 3, 5, 6] rfl)
  · replace hf := o_f hf c_21
    refine lv_iload hx hb dX4_turning_24 (lv_at hl 7 rfl) ?_
    refine lv_iconst (v := 1) hx hb dX4_turning_26 (by decide) ?_
    refine lv_iadd hx hb dX4_turning_27 ?_
    refine k_bind hf (fun v2 hv2 hf => ?_)
    refine m_nmi hv2 ?_
    refine lv_istore (lv' := [(8, .int v2), (0, .ref (mo G)), (1, .int y1), (2, .int y2), (3, .int y3), (4, .int y4), (5, .int q.1), (6, .int q.2.1), (7, .int q.2.2.1)]) hx hb dX4_turning_28 hl (by decide) rfl (fun ls hl => ?_)
    refine k_bind hf (fun b8 hb8 hf => ?_)
    refine wLX4_turning_30 S hb8 ?_ _ _ _ hR hS (lv_sub (l' := [(0, .ref (mo G)), (1, .int y1), (2, .int y2), (3, .int y3), (4, .int y4), (5, .int q.1), (6, .int q.2.1), (7, .int q.2.2.1), (8, .int v2)]) hl [1, 2, 3, 4, 5, 6, 7, 8, 0] rfl)
    · intro b eb; subst eb; intro H locs ls hR hS hl
      refine lv_iinc (lv' := [(7, .int (q.2.2.1 + (1 : Int32))), (0, .ref (mo G)), (1, .int y1), (2, .int y2), (3, .int y3), (4, .int y4), (5, .int b8.1), (6, .int b8.2.1)]) hx hb dX4_turning_126 hl (k := 7) rfl (m_inc (by decide)) (by decide) rfl (fun ls hl => ?_)
      refine lv_goto (tgt := 15) hx hb dX4_turning_129 (by decide) ?_
      exact hK _ (Option.some.inj hf).symm _ _ _ hR hS (lv_sub (l' := [(0, .ref (mo G)), (1, .int y1), (2, .int y2), (3, .int y3), (4, .int y4), (5, .int b8.1), (6, .int b8.2.1), (7, .int (q.2.2.1 + (1 : Int32)))]) hl [1, 2, 3, 4, 5, 6, 7, 0] rfl)
set_option maxHeartbeats 4000000 in
set_option maxRecDepth 100000 in
theorem wLX4_turning_15 {l : Launch} {G : mG} {p : Program} {e : Env} {s : State} {m : MethodId} {args : Array Value} {below : List Frame} {meth : Method} {c : Code} {Q : State → Prop} {y1 : Int32} {y2 : Int32} {y3 : Int32} {y4 : Int32} {q : Int32 × Int32 × Int32 × mS} {res : Int32 × Int32 × mS} (S : mSt G p m c cX4_turning 10 s args meth (Option.some Jvm.ClassFile.FieldType.int)) (h : lpw (LX4_turning_15 y1 y2 y3 y4) q = some res) (hE132 : ∀ b, res = b → (∀ (H : Heap) (locs : List Loc) (ls : Array Slot), mR G b.2.2 H → va_S (mA G) s.heap H locs → lv_has ls 10 [(0, .ref (mo G)), (3, .int y3), (5, .int b.1), (6, .int b.2.1)] → W p l e (mRm 3 66) s m args below meth c H locs 0 0 Q (F0 m 132 ls []))) : (∀ (H : Heap) (locs : List Loc) (ls : Array Slot), mR G q.2.2.2 H → va_S (mA G) s.heap H locs → lv_has ls 10 [(0, .ref (mo G)), (1, .int y1), (2, .int y2), (3, .int y3), (4, .int y4), (5, .int q.1), (6, .int q.2.1), (7, .int q.2.2.1)] → W p l e (mRm 3 66) s m args below meth c H locs 0 0 Q (F0 m 15 ls [])) :=
  lpw_go _ (fun q => (∀ (H : Heap) (locs : List Loc) (ls : Array Slot), mR G q.2.2.2 H → va_S (mA G) s.heap H locs → lv_has ls 10 [(0, .ref (mo G)), (1, .int y1), (2, .int y2), (3, .int y3), (4, .int y4), (5, .int q.1), (6, .int q.2.1), (7, .int q.2.2.1)] → W p l e (mRm 3 66) s m args below meth c H locs 0 0 Q (F0 m 15 ls []))) (fun b0 => (∀ b, b0 = b → (∀ (H : Heap) (locs : List Loc) (ls : Array Slot), mR G b.2.2 H → va_S (mA G) s.heap H locs → lv_has ls 10 [(0, .ref (mo G)), (3, .int y3), (5, .int b.1), (6, .int b.2.1)] → W p l e (mRm 3 66) s m args below meth c H locs 0 0 Q (F0 m 132 ls [])))) (fun q x hf hK hX => wbLX4_turning_15 S hf hK (fun b eb => (hX _ eb) b rfl)) q res h hE132
set_option maxHeartbeats 4000000 in
set_option maxRecDepth 100000 in
theorem met_X4_turning {l : Launch} {G : mG} {x1 : Int32} {x2 : Int32} {x3 : Int32} {σ : mS} {res : Int32 × mS} (hf : fX4_turning x1 x2 x3 σ = some res) : mMet l yX4_turning cX4_turning 10 (Option.some Jvm.ClassFile.FieldType.int) (mRm 3 66) G [.ref (mo G), .int x1, .int x2, .int x3] σ (some (.int res.1)) res.2 := by
  replace hf : ((fX4_least σ).bind (fun v1 => (lpw (LX4_turning_15 x1 x2 x3 v1) ((-1 : Int32), (0 : Int32), (0 : Int32), σ)).bind (fun b9 => if x3 = (0 : Int32) then some (b9.1, b9.2.2) else some (b9.2.1, b9.2.2)))) = some res := hf
  refine m_start (by decide) rfl (Nat.le_of_ble_eq_true rfl) ?_
  intro p e s m args below meth c S hR hS ls hl
  obtain ⟨hx, hb, hml, hown, hts⟩ := S.1.1
  have hl : lv_has ls 10 [(0, .ref (mo G)), (1, .int x1), (2, .int x2), (3, .int x3)] := hl
  refine lv_aload_n hx hb dX4_turning_0 rfl (lv_at hl 0 rfl) ?_
  refine k_bind hf (fun v1 hv1 hf => ?_)
  refine m_call (As := []) (rest := []) S hR hS (met_X4_least hv1) wi_X4_least rfl q2765 ⟨rfl, rfl⟩ ⟨Nat.le_of_ble_eq_true rfl, Nat.le_of_ble_eq_true rfl⟩ rfl hl.1 rfl (Nat.le_of_ble_eq_true rfl) dX4_turning_1 (fun H locs hR hS => ?_)
  refine lv_istore (lv' := [(4, .int v1), (0, .ref (mo G)), (1, .int x1), (2, .int x2), (3, .int x3)]) hx hb dX4_turning_4 hl (by decide) rfl (fun ls hl => ?_)
  refine lv_iconst (v := -1) hx hb dX4_turning_6 (by decide) ?_
  refine lv_istore (lv' := [(5, .int (-1 : Int32)), (4, .int v1), (0, .ref (mo G)), (1, .int x1), (2, .int x2), (3, .int x3)]) hx hb dX4_turning_7 hl (by decide) rfl (fun ls hl => ?_)
  refine lv_iconst (v := 0) hx hb dX4_turning_9 (by decide) ?_
  refine lv_istore (lv' := [(6, .int (0 : Int32)), (5, .int (-1 : Int32)), (4, .int v1), (0, .ref (mo G)), (1, .int x1), (2, .int x2), (3, .int x3)]) hx hb dX4_turning_10 hl (by decide) rfl (fun ls hl => ?_)
  refine lv_iconst (v := 0) hx hb dX4_turning_12 (by decide) ?_
  refine lv_istore (lv' := [(7, .int (0 : Int32)), (6, .int (0 : Int32)), (5, .int (-1 : Int32)), (4, .int v1), (0, .ref (mo G)), (1, .int x1), (2, .int x2), (3, .int x3)]) hx hb dX4_turning_13 hl (by decide) rfl (fun ls hl => ?_)
  refine k_bind hf (fun b9 hb9 hf => ?_)
  refine wLX4_turning_15 S hb9 ?_ _ _ _ hR hS (lv_sub (l' := [(0, .ref (mo G)), (1, .int x1), (2, .int x2), (3, .int x3), (4, .int v1), (5, .int (-1 : Int32)), (6, .int (0 : Int32)), (7, .int (0 : Int32))]) hl [4, 5, 6, 7, 3, 2, 1, 0] rfl)
  · intro b eb; subst eb; intro H locs ls hR hS hl
    refine lv_iload_n hx hb dX4_turning_132 rfl (lv_at hl 1 rfl) ?_
    refine lv_if_ne (tgt := 141) hx hb dX4_turning_133 (by decide) (fun c_133 => ?_) (fun c_133 => ?_)
    · replace hf := o_f hf c_133
      refine lv_iload hx hb dX4_turning_141 (lv_at hl 3 rfl) ?_
      obtain rfl := Option.some.inj hf
      exact m_iret S hR hS rfl dX4_turning_143
    · replace hf := o_t hf c_133
      refine lv_iload hx hb dX4_turning_136 (lv_at hl 2 rfl) ?_
      refine lv_goto (tgt := 143) hx hb dX4_turning_138 (by decide) ?_
      obtain rfl := Option.some.inj hf
      exact m_iret S hR hS rfl dX4_turning_143

noncomputable def fX4_cut (x1 : Int32) (σ : mS) : Option (Int32 × mS) :=
  if (fX4_in x1 (0 : Int32) (1 : Int32)) = (0 : Int32) then some ((-2 : Int32), σ) else (fX4_turning (1 : Int32) (-1 : Int32) x1 σ).bind (fun e1 => some (e1.1, e1.2))
theorem wi_X4_cut : wInfV yX4_cut cX4_cut 2 (Option.some Jvm.ClassFile.FieldType.int) 1 := ⟨q2937, q2938, q116, q2939, (by decide +kernel), (by decide +kernel), (by decide +kernel)⟩
set_option maxHeartbeats 4000000 in
set_option maxRecDepth 100000 in
theorem met_X4_cut {l : Launch} {G : mG} {x1 : Int32} {σ : mS} {res : Int32 × mS} (hf : fX4_cut x1 σ = some res) : mMet l yX4_cut cX4_cut 2 (Option.some Jvm.ClassFile.FieldType.int) (mRm 4 95) G [.ref (mo G), .int x1] σ (some (.int res.1)) res.2 := by
  replace hf : (if (fX4_in x1 (0 : Int32) (1 : Int32)) = (0 : Int32) then some ((-2 : Int32), σ) else (fX4_turning (1 : Int32) (-1 : Int32) x1 σ).bind (fun e1 => some (e1.1, e1.2))) = some res := hf
  refine m_start (by decide) rfl (Nat.le_of_ble_eq_true rfl) ?_
  intro p e s m args below meth c S hR hS ls hl
  obtain ⟨hx, hb, hml, hown, hts⟩ := S.1.1
  have hl : lv_has ls 2 [(0, .ref (mo G)), (1, .int x1)] := hl
  refine lv_iload_n hx hb dX4_cut_0 rfl (lv_at hl 1 rfl) ?_
  refine lv_iconst (v := 0) hx hb dX4_cut_1 (by decide) ?_
  refine lv_iconst (v := 1) hx hb dX4_cut_2 (by decide) ?_
  refine s_call (As := [.int x1, .int (0 : Int32), .int (1 : Int32)]) (rest := []) S.1.1 (met_X4_in rfl) wi_X4_in q2681 ⟨rfl, rfl⟩ ⟨Nat.le_of_ble_eq_true rfl, Nat.le_of_ble_eq_true rfl⟩ rfl hl.1 rfl (Nat.le_of_ble_eq_true rfl) dX4_cut_3 ⟨Nat.zero_le _, Nat.zero_le _⟩ ?_
  refine lv_if_eq (tgt := 19) hx hb dX4_cut_6 (by decide) (fun c_6 => ?_) (fun c_6 => ?_)
  · replace hf := o_t hf c_6
    refine lv_bipush (v := -2) hx hb dX4_cut_19 (by decide) ?_
    obtain rfl := Option.some.inj hf
    exact m_iret S hR hS rfl dX4_cut_21
  · replace hf := o_f hf c_6
    refine lv_aload_n hx hb dX4_cut_9 rfl (lv_at hl 0 rfl) ?_
    refine lv_iconst (v := 1) hx hb dX4_cut_10 (by decide) ?_
    refine lv_iconst (v := -1) hx hb dX4_cut_11 (by decide) ?_
    refine lv_iload_n hx hb dX4_cut_12 rfl (lv_at hl 1 rfl) ?_
    refine k_bind hf (fun e1 he1 hf => ?_)
    refine m_call (As := [.int (1 : Int32), .int (-1 : Int32), .int x1]) (rest := []) S hR hS (met_X4_turning he1) wi_X4_turning rfl q2940 ⟨rfl, rfl⟩ ⟨Nat.le_of_ble_eq_true rfl, Nat.le_of_ble_eq_true rfl⟩ rfl hl.1 rfl (Nat.le_of_ble_eq_true rfl) dX4_cut_13 (fun H locs hR hS => ?_)
    refine lv_goto (tgt := 21) hx hb dX4_cut_16 (by decide) ?_
    obtain rfl := Option.some.inj hf
    exact m_iret S hR hS rfl dX4_cut_21

noncomputable def fX4_joins (x1 : Int32) (σ : mS) : Option (Int32 × mS) :=
  if (fX4_in x1 (0 : Int32) (1 : Int32)) = (0 : Int32) then some ((-2 : Int32), σ) else (fX4_turning (0 : Int32) (1 : Int32) x1 σ).bind (fun e1 => some (e1.1, e1.2))
theorem wi_X4_joins : wInfV yX4_joins cX4_joins 2 (Option.some Jvm.ClassFile.FieldType.int) 1 := ⟨q2945, q2946, q116, q2947, (by decide +kernel), (by decide +kernel), (by decide +kernel)⟩
set_option maxHeartbeats 4000000 in
set_option maxRecDepth 100000 in
theorem met_X4_joins {l : Launch} {G : mG} {x1 : Int32} {σ : mS} {res : Int32 × mS} (hf : fX4_joins x1 σ = some res) : mMet l yX4_joins cX4_joins 2 (Option.some Jvm.ClassFile.FieldType.int) (mRm 4 95) G [.ref (mo G), .int x1] σ (some (.int res.1)) res.2 := by
  replace hf : (if (fX4_in x1 (0 : Int32) (1 : Int32)) = (0 : Int32) then some ((-2 : Int32), σ) else (fX4_turning (0 : Int32) (1 : Int32) x1 σ).bind (fun e1 => some (e1.1, e1.2))) = some res := hf
  refine m_start (by decide) rfl (Nat.le_of_ble_eq_true rfl) ?_
  intro p e s m args below meth c S hR hS ls hl
  obtain ⟨hx, hb, hml, hown, hts⟩ := S.1.1
  have hl : lv_has ls 2 [(0, .ref (mo G)), (1, .int x1)] := hl
  refine lv_iload_n hx hb dX4_joins_0 rfl (lv_at hl 1 rfl) ?_
  refine lv_iconst (v := 0) hx hb dX4_joins_1 (by decide) ?_
  refine lv_iconst (v := 1) hx hb dX4_joins_2 (by decide) ?_
  refine s_call (As := [.int x1, .int (0 : Int32), .int (1 : Int32)]) (rest := []) S.1.1 (met_X4_in rfl) wi_X4_in q2681 ⟨rfl, rfl⟩ ⟨Nat.le_of_ble_eq_true rfl, Nat.le_of_ble_eq_true rfl⟩ rfl hl.1 rfl (Nat.le_of_ble_eq_true rfl) dX4_joins_3 ⟨Nat.zero_le _, Nat.zero_le _⟩ ?_
  refine lv_if_eq (tgt := 19) hx hb dX4_joins_6 (by decide) (fun c_6 => ?_) (fun c_6 => ?_)
  · replace hf := o_t hf c_6
    refine lv_bipush (v := -2) hx hb dX4_joins_19 (by decide) ?_
    obtain rfl := Option.some.inj hf
    exact m_iret S hR hS rfl dX4_joins_21
  · replace hf := o_f hf c_6
    refine lv_aload_n hx hb dX4_joins_9 rfl (lv_at hl 0 rfl) ?_
    refine lv_iconst (v := 0) hx hb dX4_joins_10 (by decide) ?_
    refine lv_iconst (v := 1) hx hb dX4_joins_11 (by decide) ?_
    refine lv_iload_n hx hb dX4_joins_12 rfl (lv_at hl 1 rfl) ?_
    refine k_bind hf (fun e1 he1 hf => ?_)
    refine m_call (As := [.int (0 : Int32), .int (1 : Int32), .int x1]) (rest := []) S hR hS (met_X4_turning he1) wi_X4_turning rfl q2940 ⟨rfl, rfl⟩ ⟨Nat.le_of_ble_eq_true rfl, Nat.le_of_ble_eq_true rfl⟩ rfl hl.1 rfl (Nat.le_of_ble_eq_true rfl) dX4_joins_13 (fun H locs hR hS => ?_)
    refine lv_goto (tgt := 21) hx hb dX4_joins_16 (by decide) ?_
    obtain rfl := Option.some.inj hf
    exact m_iret S hR hS rfl dX4_joins_21

noncomputable def LX4_payments_8 (y1 : Int32) (y2 : Int32) (y3 : Int32) (y4 : Int32) (q : Int32 × mS) : Option ((Int32 × mS) ⊕ (mS)) :=
  if (q.2.1 0) ≤ q.1 then some (Sum.inr q.2) else (fX4_costAt q.1 q.2).bind (fun v1 => (mast q.2 23 q.1 v1).bind (fun σ2 => some (Sum.inl (q.1 + (1 : Int32), σ2))))
noncomputable def JX4_payments_158 (y1 : Int32) (y2 : Int32) (y3 : Int32) (y4 : Int32) (y5 : Int32) (y6 : Int32) (y7 : Int32) (σ : mS) : Option ((Int32 × Int32 × Int32 × mS) ⊕ (Int32 × Int32 × mS)) :=
  if y5 = y2 then if y6 = y1 then some (Sum.inl (y3, y7, y6 + (1 : Int32), σ)) else some (Sum.inl (y3, y4, y6 + (1 : Int32), σ)) else some (Sum.inl (y3, y4, y6 + (1 : Int32), σ))
noncomputable def JX4_payments_115 (y1 : Int32) (y2 : Int32) (y3 : Int32) (y4 : Int32) (y5 : Int32) (y6 : Int32) (z0 : Int32) (σ : mS) : Option ((Int32 × Int32 × Int32 × mS) ⊕ (Int32 × Int32 × mS)) :=
  (mald σ 23 y5).bind (fun v9 => (mast σ 23 y5 (v9 - z0)).bind (fun σ10 => (mald σ10 23 y6).bind (fun v11 => (mast σ10 23 y6 (v11 - z0)).bind (fun σ12 => (some (y3 + z0)).bind (fun v13 => if y5 = y1 then if y6 = y2 then some (Sum.inl (v13, z0, y6 + (1 : Int32), σ12)) else JX4_payments_158 y1 y2 v13 y4 y5 y6 z0 σ12 else JX4_payments_158 y1 y2 v13 y4 y5 y6 z0 σ12)))))
noncomputable def LX4_payments_54 (y1 : Int32) (y2 : Int32) (y5 : Int32) (q : Int32 × Int32 × Int32 × mS) : Option ((Int32 × Int32 × Int32 × mS) ⊕ (Int32 × Int32 × mS)) :=
  if (q.2.2.2.1 0) ≤ q.2.2.1 then some (Sum.inr (q.1, q.2.1, q.2.2.2)) else (mald q.2.2.2 4 y5).bind (fun v5 => if (fX4_has v5 q.2.2.1) = (0 : Int32) then some (Sum.inl (q.1, q.2.1, q.2.2.1 + (1 : Int32), q.2.2.2)) else (mald q.2.2.2 23 y5).bind (fun v6 => (mald q.2.2.2 23 q.2.2.1).bind (fun v7 => if v7 ≤ v6 then (mald q.2.2.2 23 q.2.2.1).bind (fun v8 => JX4_payments_115 y1 y2 q.1 q.2.1 y5 q.2.2.1 v8 q.2.2.2) else (mald q.2.2.2 23 y5).bind (fun v14 => JX4_payments_115 y1 y2 q.1 q.2.1 y5 q.2.2.1 v14 q.2.2.2))))
noncomputable def LX4_payments_39 (y1 : Int32) (y2 : Int32) (q : Int32 × Int32 × Int32 × mS) : Option ((Int32 × Int32 × Int32 × mS) ⊕ (Int32 × Int32 × mS)) :=
  if (q.2.2.2.1 0) ≤ q.2.2.1 then some (Sum.inr (q.1, q.2.1, q.2.2.2)) else (some (q.2.2.1 + (1 : Int32))).bind (fun v4 => (lpw (LX4_payments_54 y1 y2 q.2.2.1) (q.1, q.2.1, v4, q.2.2.2)).bind (fun b15 => some (Sum.inl (b15.1, b15.2.1, q.2.2.1 + (1 : Int32), b15.2.2))))
noncomputable def fX4_payments (x1 : Int32) (x2 : Int32) (σ : mS) : Option (Int32 × mS) :=
  (lpw (LX4_payments_8 x1 x2 (0 : Int32) (0 : Int32)) ((0 : Int32), σ)).bind (fun b3 => (lpw (LX4_payments_39 x1 x2) ((0 : Int32), (0 : Int32), (0 : Int32), b3)).bind (fun b16 => if x1 = (-1 : Int32) then some (b16.1, b16.2.2) else some (b16.2.1, b16.2.2)))
theorem wi_X4_payments : wInfV yX4_payments cX4_payments 8 (Option.some Jvm.ClassFile.FieldType.int) 2 := ⟨q2954, qs89, q116, q2955, (by decide +kernel), (by decide +kernel), (by decide +kernel)⟩
set_option maxHeartbeats 4000000 in
set_option maxRecDepth 100000 in
theorem wbLX4_payments_8 {l : Launch} {G : mG} {p : Program} {e : Env} {s : State} {m : MethodId} {args : Array Value} {below : List Frame} {meth : Method} {c : Code} {Q : State → Prop} {y1 : Int32} {y2 : Int32} {y3 : Int32} {y4 : Int32} {q : Int32 × mS} {res : (Int32 × mS) ⊕ (mS)} (S : mSt G p m c cX4_payments 8 s args meth (Option.some Jvm.ClassFile.FieldType.int)) (hf : LX4_payments_8 y1 y2 y3 y4 q = some res) (hK : ∀ q, res = Sum.inl q → (∀ (H : Heap) (locs : List Loc) (ls : Array Slot), mR G q.2 H → va_S (mA G) s.heap H locs → lv_has ls 8 [(0, .ref (mo G)), (1, .int y1), (2, .int y2), (3, .int y3), (4, .int y4), (5, .int q.1)] → W p l e (mRm 2 45) s m args below meth c H locs 0 0 Q (F0 m 8 ls []))) (hE36 : ∀ b, res = Sum.inr b → (∀ (H : Heap) (locs : List Loc) (ls : Array Slot), mR G b H → va_S (mA G) s.heap H locs → lv_has ls 8 [(0, .ref (mo G)), (1, .int y1), (2, .int y2), (3, .int y3), (4, .int y4)] → W p l e (mRm 2 45) s m args below meth c H locs 0 0 Q (F0 m 36 ls []))) : (∀ (H : Heap) (locs : List Loc) (ls : Array Slot), mR G q.2 H → va_S (mA G) s.heap H locs → lv_has ls 8 [(0, .ref (mo G)), (1, .int y1), (2, .int y2), (3, .int y3), (4, .int y4), (5, .int q.1)] → W p l e (mRm 2 45) s m args below meth c H locs 0 0 Q (F0 m 8 ls [])) := by
  replace hf : (if (q.2.1 0) ≤ q.1 then some (Sum.inr q.2) else (fX4_costAt q.1 q.2).bind (fun v1 => (mast q.2 23 q.1 v1).bind (fun σ2 => some (Sum.inl (q.1 + (1 : Int32), σ2))))) = some res := hf
  obtain ⟨hx, hb, hml, hown, hts⟩ := S.1.1
  intro H locs ls hR hS hl
  refine lv_iload hx hb dX4_payments_8 (lv_at hl 5 rfl) ?_
  refine lv_aload_n hx hb dX4_payments_10 rfl (lv_at hl 0 rfl) ?_
  refine m_geti (k := 0) S hR (by decide) (by decide) q2526 dX4_payments_11 ?_
  refine lv_icmp_ge (tgt := 36) hx hb dX4_payments_14 (by decide) (fun c_14 => ?_) (fun c_14 => ?_)
  · replace hf := o_t hf c_14
    exact hE36 _ (Option.some.inj hf).symm _ _ _ hR hS (lv_sub (l' := [(0, .ref (mo G)), (1, .int y1), (2, .int y2), (3, .int y3), (4, .int y4)]) hl [0, 1, 2, 3, 4] rfl)
  · replace hf := o_f hf c_14
    refine lv_aload_n hx hb dX4_payments_17 rfl (lv_at hl 0 rfl) ?_
    refine m_geta (k := 23) S hR (by decide) (by decide) q2549 dX4_payments_18 ?_
    refine lv_iload hx hb dX4_payments_21 (lv_at hl 5 rfl) ?_
    refine lv_aload_n hx hb dX4_payments_23 rfl (lv_at hl 0 rfl) ?_
    refine lv_iload hx hb dX4_payments_24 (lv_at hl 5 rfl) ?_
    refine k_bind hf (fun v1 hv1 hf => ?_)
    refine m_call (As := [.int q.1]) (rest := [.int q.1, .ref (mad G 23)]) S hR hS (met_X4_costAt hv1) wi_X4_costAt rfl q2708 ⟨rfl, rfl⟩ ⟨Nat.le_of_ble_eq_true rfl, Nat.le_of_ble_eq_true rfl⟩ rfl hl.1 rfl (Nat.le_of_ble_eq_true rfl) dX4_payments_26 (fun H locs hR hS => ?_)
    refine k_bind hf (fun σ2 hσ2 hf => ?_)
    refine m_iast S hR hS hσ2 dX4_payments_29 (fun H locs hR hS => ?_)
    refine lv_iinc (lv' := [(5, .int (q.1 + (1 : Int32))), (0, .ref (mo G)), (1, .int y1), (2, .int y2), (3, .int y3), (4, .int y4)]) hx hb dX4_payments_30 hl (k := 5) rfl (m_inc (by decide)) (by decide) rfl (fun ls hl => ?_)
    refine lv_goto (tgt := 8) hx hb dX4_payments_33 (by decide) ?_
    exact hK _ (Option.some.inj hf).symm _ _ _ hR hS (lv_sub (l' := [(0, .ref (mo G)), (1, .int y1), (2, .int y2), (3, .int y3), (4, .int y4), (5, .int (q.1 + (1 : Int32)))]) hl [1, 2, 3, 4, 5, 0] rfl)
set_option maxHeartbeats 4000000 in
set_option maxRecDepth 100000 in
theorem wLX4_payments_8 {l : Launch} {G : mG} {p : Program} {e : Env} {s : State} {m : MethodId} {args : Array Value} {below : List Frame} {meth : Method} {c : Code} {Q : State → Prop} {y1 : Int32} {y2 : Int32} {y3 : Int32} {y4 : Int32} {q : Int32 × mS} {res : mS} (S : mSt G p m c cX4_payments 8 s args meth (Option.some Jvm.ClassFile.FieldType.int)) (h : lpw (LX4_payments_8 y1 y2 y3 y4) q = some res) (hE36 : ∀ b, res = b → (∀ (H : Heap) (locs : List Loc) (ls : Array Slot), mR G b H → va_S (mA G) s.heap H locs → lv_has ls 8 [(0, .ref (mo G)), (1, .int y1), (2, .int y2), (3, .int y3), (4, .int y4)] → W p l e (mRm 2 45) s m args below meth c H locs 0 0 Q (F0 m 36 ls []))) : (∀ (H : Heap) (locs : List Loc) (ls : Array Slot), mR G q.2 H → va_S (mA G) s.heap H locs → lv_has ls 8 [(0, .ref (mo G)), (1, .int y1), (2, .int y2), (3, .int y3), (4, .int y4), (5, .int q.1)] → W p l e (mRm 2 45) s m args below meth c H locs 0 0 Q (F0 m 8 ls [])) :=
  lpw_go _ (fun q => (∀ (H : Heap) (locs : List Loc) (ls : Array Slot), mR G q.2 H → va_S (mA G) s.heap H locs → lv_has ls 8 [(0, .ref (mo G)), (1, .int y1), (2, .int y2), (3, .int y3), (4, .int y4), (5, .int q.1)] → W p l e (mRm 2 45) s m args below meth c H locs 0 0 Q (F0 m 8 ls []))) (fun b0 => (∀ b, b0 = b → (∀ (H : Heap) (locs : List Loc) (ls : Array Slot), mR G b H → va_S (mA G) s.heap H locs → lv_has ls 8 [(0, .ref (mo G)), (1, .int y1), (2, .int y2), (3, .int y3), (4, .int y4)] → W p l e (mRm 2 45) s m args below meth c H locs 0 0 Q (F0 m 36 ls [])))) (fun q x hf hK hX => wbLX4_payments_8 S hf hK (fun b eb => (hX _ eb) b rfl)) q res h hE36
set_option maxHeartbeats 4000000 in
set_option maxRecDepth 100000 in
theorem wJX4_payments_158 {l : Launch} {G : mG} {p : Program} {e : Env} {s : State} {m : MethodId} {args : Array Value} {below : List Frame} {meth : Method} {c : Code} {Q : State → Prop} {y1 : Int32} {y2 : Int32} {y3 : Int32} {y4 : Int32} {y5 : Int32} {y6 : Int32} {y7 : Int32} {σ : mS} {res : (Int32 × Int32 × Int32 × mS) ⊕ (Int32 × Int32 × mS)} (S : mSt G p m c cX4_payments 8 s args meth (Option.some Jvm.ClassFile.FieldType.int)) (hf : JX4_payments_158 y1 y2 y3 y4 y5 y6 y7 σ = some res) (hK : ∀ q, res = Sum.inl q → (∀ (H : Heap) (locs : List Loc) (ls : Array Slot), mR G q.2.2.2 H → va_S (mA G) s.heap H locs → lv_has ls 8 [(0, .ref (mo G)), (1, .int y1), (2, .int y2), (3, .int q.1), (4, .int q.2.1), (5, .int y5), (6, .int q.2.2.1)] → W p l e (mRm 2 45) s m args below meth c H locs 0 0 Q (F0 m 54 ls []))) (hE185 : ∀ b, res = Sum.inr b → (∀ (H : Heap) (locs : List Loc) (ls : Array Slot), mR G b.2.2 H → va_S (mA G) s.heap H locs → lv_has ls 8 [(0, .ref (mo G)), (1, .int y1), (2, .int y2), (3, .int b.1), (4, .int b.2.1), (5, .int y5)] → W p l e (mRm 2 45) s m args below meth c H locs 0 0 Q (F0 m 185 ls []))) : ∀ (H : Heap) (locs : List Loc) (ls : Array Slot), mR G σ H → va_S (mA G) s.heap H locs → lv_has ls 8 [(0, .ref (mo G)), (1, .int y1), (2, .int y2), (3, .int y3), (4, .int y4), (5, .int y5), (6, .int y6), (7, .int y7)] → W p l e (mRm 2 45) s m args below meth c H locs 0 0 Q (F0 m 158 ls []) := by
  replace hf : (if y5 = y2 then if y6 = y1 then some (Sum.inl (y3, y7, y6 + (1 : Int32), σ)) else some (Sum.inl (y3, y4, y6 + (1 : Int32), σ)) else some (Sum.inl (y3, y4, y6 + (1 : Int32), σ))) = some res := hf
  obtain ⟨hx, hb, hml, hown, hts⟩ := S.1.1
  intro H locs ls hR hS hl
  refine lv_iload hx hb dX4_payments_158 (lv_at hl 5 rfl) ?_
  refine lv_iload_n hx hb dX4_payments_160 rfl (lv_at hl 2 rfl) ?_
  refine lv_icmp_ne (tgt := 175) hx hb dX4_payments_161 (by decide) (fun c_161 => ?_) (fun c_161 => ?_)
  · replace hf := o_f hf c_161
    refine lv_iload hx hb dX4_payments_175 (lv_at hl 4 rfl) ?_
    refine lv_istore (lv' := [(4, .int y4), (0, .ref (mo G)), (1, .int y1), (2, .int y2), (3, .int y3), (5, .int y5), (6, .int y6), (7, .int y7)]) hx hb dX4_payments_177 hl (by decide) rfl (fun ls hl => ?_)
    refine lv_iinc (lv' := [(6, .int (y6 + (1 : Int32))), (4, .int y4), (0, .ref (mo G)), (1, .int y1), (2, .int y2), (3, .int y3), (5, .int y5), (7, .int y7)]) hx hb dX4_payments_179 hl (k := 6) rfl (m_inc (by decide)) (by decide) rfl (fun ls hl => ?_)
    refine lv_goto (tgt := 54) hx hb dX4_payments_182 (by decide) ?_
    exact hK _ (Option.some.inj hf).symm _ _ _ hR hS (lv_sub (l' := [(0, .ref (mo G)), (1, .int y1), (2, .int y2), (3, .int y3), (4, .int y4), (5, .int y5), (6, .int (y6 + (1 : Int32)))]) hl [2, 3, 4, 5, 1, 6, 0] rfl)
  · replace hf := o_t hf c_161
    refine lv_iload hx hb dX4_payments_164 (lv_at hl 6 rfl) ?_
    refine lv_iload_n hx hb dX4_payments_166 rfl (lv_at hl 1 rfl) ?_
    refine lv_icmp_ne (tgt := 175) hx hb dX4_payments_167 (by decide) (fun c_167 => ?_) (fun c_167 => ?_)
    · replace hf := o_f hf c_167
      refine lv_iload hx hb dX4_payments_175 (lv_at hl 4 rfl) ?_
      refine lv_istore (lv' := [(4, .int y4), (0, .ref (mo G)), (1, .int y1), (2, .int y2), (3, .int y3), (5, .int y5), (6, .int y6), (7, .int y7)]) hx hb dX4_payments_177 hl (by decide) rfl (fun ls hl => ?_)
      refine lv_iinc (lv' := [(6, .int (y6 + (1 : Int32))), (4, .int y4), (0, .ref (mo G)), (1, .int y1), (2, .int y2), (3, .int y3), (5, .int y5), (7, .int y7)]) hx hb dX4_payments_179 hl (k := 6) rfl (m_inc (by decide)) (by decide) rfl (fun ls hl => ?_)
      refine lv_goto (tgt := 54) hx hb dX4_payments_182 (by decide) ?_
      exact hK _ (Option.some.inj hf).symm _ _ _ hR hS (lv_sub (l' := [(0, .ref (mo G)), (1, .int y1), (2, .int y2), (3, .int y3), (4, .int y4), (5, .int y5), (6, .int (y6 + (1 : Int32)))]) hl [2, 3, 4, 5, 1, 6, 0] rfl)
    · replace hf := o_t hf c_167
      refine lv_iload hx hb dX4_payments_170 (lv_at hl 7 rfl) ?_
      refine lv_goto (tgt := 177) hx hb dX4_payments_172 (by decide) ?_
      refine lv_istore (lv' := [(4, .int y7), (0, .ref (mo G)), (1, .int y1), (2, .int y2), (3, .int y3), (5, .int y5), (6, .int y6), (7, .int y7)]) hx hb dX4_payments_177 hl (by decide) rfl (fun ls hl => ?_)
      refine lv_iinc (lv' := [(6, .int (y6 + (1 : Int32))), (4, .int y7), (0, .ref (mo G)), (1, .int y1), (2, .int y2), (3, .int y3), (5, .int y5), (7, .int y7)]) hx hb dX4_payments_179 hl (k := 6) rfl (m_inc (by decide)) (by decide) rfl (fun ls hl => ?_)
      refine lv_goto (tgt := 54) hx hb dX4_payments_182 (by decide) ?_
      exact hK _ (Option.some.inj hf).symm _ _ _ hR hS (lv_sub (l' := [(0, .ref (mo G)), (1, .int y1), (2, .int y2), (3, .int y3), (4, .int y7), (5, .int y5), (6, .int (y6 + (1 : Int32)))]) hl [2, 3, 4, 5, 1, 6, 0] rfl)
set_option maxHeartbeats 4000000 in
set_option maxRecDepth 100000 in
theorem wJX4_payments_115 {l : Launch} {G : mG} {p : Program} {e : Env} {s : State} {m : MethodId} {args : Array Value} {below : List Frame} {meth : Method} {c : Code} {Q : State → Prop} {y1 : Int32} {y2 : Int32} {y3 : Int32} {y4 : Int32} {y5 : Int32} {y6 : Int32} {z0 : Int32} {σ : mS} {res : (Int32 × Int32 × Int32 × mS) ⊕ (Int32 × Int32 × mS)} (S : mSt G p m c cX4_payments 8 s args meth (Option.some Jvm.ClassFile.FieldType.int)) (hf : JX4_payments_115 y1 y2 y3 y4 y5 y6 z0 σ = some res) (hK : ∀ q, res = Sum.inl q → (∀ (H : Heap) (locs : List Loc) (ls : Array Slot), mR G q.2.2.2 H → va_S (mA G) s.heap H locs → lv_has ls 8 [(0, .ref (mo G)), (1, .int y1), (2, .int y2), (3, .int q.1), (4, .int q.2.1), (5, .int y5), (6, .int q.2.2.1)] → W p l e (mRm 2 45) s m args below meth c H locs 0 0 Q (F0 m 54 ls []))) (hE185 : ∀ b, res = Sum.inr b → (∀ (H : Heap) (locs : List Loc) (ls : Array Slot), mR G b.2.2 H → va_S (mA G) s.heap H locs → lv_has ls 8 [(0, .ref (mo G)), (1, .int y1), (2, .int y2), (3, .int b.1), (4, .int b.2.1), (5, .int y5)] → W p l e (mRm 2 45) s m args below meth c H locs 0 0 Q (F0 m 185 ls []))) : ∀ (H : Heap) (locs : List Loc) (ls : Array Slot), mR G σ H → va_S (mA G) s.heap H locs → lv_has ls 8 [(0, .ref (mo G)), (1, .int y1), (2, .int y2), (3, .int y3), (4, .int y4), (5, .int y5), (6, .int y6)] → W p l e (mRm 2 45) s m args below meth c H locs 0 0 Q (F0 m 115 ls [.int z0]) := by
  replace hf : ((mald σ 23 y5).bind (fun v9 => (mast σ 23 y5 (v9 - z0)).bind (fun σ10 => (mald σ10 23 y6).bind (fun v11 => (mast σ10 23 y6 (v11 - z0)).bind (fun σ12 => (some (y3 + z0)).bind (fun v13 => if y5 = y1 then if y6 = y2 then some (Sum.inl (v13, z0, y6 + (1 : Int32), σ12)) else JX4_payments_158 y1 y2 v13 y4 y5 y6 z0 σ12 else JX4_payments_158 y1 y2 v13 y4 y5 y6 z0 σ12)))))) = some res := hf
  obtain ⟨hx, hb, hml, hown, hts⟩ := S.1.1
  intro H locs ls hR hS hl
  refine lv_istore (lv' := [(7, .int z0), (0, .ref (mo G)), (1, .int y1), (2, .int y2), (3, .int y3), (4, .int y4), (5, .int y5), (6, .int y6)]) hx hb dX4_payments_115 hl (by decide) rfl (fun ls hl => ?_)
  refine lv_aload_n hx hb dX4_payments_117 rfl (lv_at hl 1 rfl) ?_
  refine m_geta (k := 23) S hR (by decide) (by decide) q2549 dX4_payments_118 ?_
  refine lv_iload hx hb dX4_payments_121 (lv_at hl 6 rfl) ?_
  refine lv_dup2_11 hx hb dX4_payments_123 rfl rfl ?_
  refine k_bind hf (fun v9 hv9 hf => ?_)
  refine m_iald S hR hv9 dX4_payments_124 ?_
  refine lv_iload hx hb dX4_payments_125 (lv_at hl 0 rfl) ?_
  refine lv_isub hx hb dX4_payments_127 ?_
  refine k_bind hf (fun σ10 hσ10 hf => ?_)
  refine m_iast S hR hS hσ10 dX4_payments_128 (fun H locs hR hS => ?_)
  refine lv_aload_n hx hb dX4_payments_129 rfl (lv_at hl 1 rfl) ?_
  refine m_geta (k := 23) S hR (by decide) (by decide) q2549 dX4_payments_130 ?_
  refine lv_iload hx hb dX4_payments_133 (lv_at hl 7 rfl) ?_
  refine lv_dup2_11 hx hb dX4_payments_135 rfl rfl ?_
  refine k_bind hf (fun v11 hv11 hf => ?_)
  refine m_iald S hR hv11 dX4_payments_136 ?_
  refine lv_iload hx hb dX4_payments_137 (lv_at hl 0 rfl) ?_
  refine lv_isub hx hb dX4_payments_139 ?_
  refine k_bind hf (fun σ12 hσ12 hf => ?_)
  refine m_iast S hR hS hσ12 dX4_payments_140 (fun H locs hR hS => ?_)
  refine lv_iload_n hx hb dX4_payments_141 rfl (lv_at hl 4 rfl) ?_
  refine lv_iload hx hb dX4_payments_142 (lv_at hl 0 rfl) ?_
  refine lv_iadd hx hb dX4_payments_144 ?_
  refine k_bind hf (fun v13 hv13 hf => ?_)
  refine m_nmi hv13 ?_
  refine lv_istore_n (lv' := [(3, .int v13), (7, .int z0), (0, .ref (mo G)), (1, .int y1), (2, .int y2), (4, .int y4), (5, .int y5), (6, .int y6)]) hx hb dX4_payments_145 rfl hl (by decide) rfl (fun ls hl => ?_)
  refine lv_iload hx hb dX4_payments_146 (lv_at hl 6 rfl) ?_
  refine lv_iload_n hx hb dX4_payments_148 rfl (lv_at hl 3 rfl) ?_
  refine lv_icmp_ne (tgt := 158) hx hb dX4_payments_149 (by decide) (fun c_149 => ?_) (fun c_149 => ?_)
  · replace hf := o_f hf c_149
    exact wJX4_payments_158 S hf hK hE185 _ _ _ hR hS (lv_sub (l' := [(0, .ref (mo G)), (1, .int y1), (2, .int y2), (3, .int v13), (4, .int y4), (5, .int y5), (6, .int y6), (7, .int z0)]) hl [2, 3, 4, 0, 5, 6, 7, 1] rfl)
  · replace hf := o_t hf c_149
    refine lv_iload hx hb dX4_payments_152 (lv_at hl 7 rfl) ?_
    refine lv_iload_n hx hb dX4_payments_154 rfl (lv_at hl 4 rfl) ?_
    refine lv_icmp_eq (tgt := 170) hx hb dX4_payments_155 (by decide) (fun c_155 => ?_) (fun c_155 => ?_)
    · replace hf := o_t hf c_155
      refine lv_iload hx hb dX4_payments_170 (lv_at hl 1 rfl) ?_
      refine lv_goto (tgt := 177) hx hb dX4_payments_172 (by decide) ?_
      refine lv_istore (lv' := [(4, .int z0), (3, .int v13), (7, .int z0), (0, .ref (mo G)), (1, .int y1), (2, .int y2), (5, .int y5), (6, .int y6)]) hx hb dX4_payments_177 hl (by decide) rfl (fun ls hl => ?_)
      refine lv_iinc (lv' := [(6, .int (y6 + (1 : Int32))), (4, .int z0), (3, .int v13), (7, .int z0), (0, .ref (mo G)), (1, .int y1), (2, .int y2), (5, .int y5)]) hx hb dX4_payments_179 hl (k := 7) rfl (m_inc (by decide)) (by decide) rfl (fun ls hl => ?_)
      refine lv_goto (tgt := 54) hx hb dX4_payments_182 (by decide) ?_
      exact hK _ (Option.some.inj hf).symm _ _ _ hR hS (lv_sub (l' := [(0, .ref (mo G)), (1, .int y1), (2, .int y2), (3, .int v13), (4, .int z0), (5, .int y5), (6, .int (y6 + (1 : Int32)))]) hl [4, 5, 6, 2, 1, 7, 0] rfl)
    · replace hf := o_f hf c_155
      exact wJX4_payments_158 S hf hK hE185 _ _ _ hR hS (lv_sub (l' := [(0, .ref (mo G)), (1, .int y1), (2, .int y2), (3, .int v13), (4, .int y4), (5, .int y5), (6, .int y6), (7, .int z0)]) hl [2, 3, 4, 0, 5, 6, 7, 1] rfl)
set_option maxHeartbeats 4000000 in
set_option maxRecDepth 100000 in
theorem wbLX4_payments_54 {l : Launch} {G : mG} {p : Program} {e : Env} {s : State} {m : MethodId} {args : Array Value} {below : List Frame} {meth : Method} {c : Code} {Q : State → Prop} {y1 : Int32} {y2 : Int32} {y5 : Int32} {q : Int32 × Int32 × Int32 × mS} {res : (Int32 × Int32 × Int32 × mS) ⊕ (Int32 × Int32 × mS)} (S : mSt G p m c cX4_payments 8 s args meth (Option.some Jvm.ClassFile.FieldType.int)) (hf : LX4_payments_54 y1 y2 y5 q = some res) (hK : ∀ q, res = Sum.inl q → (∀ (H : Heap) (locs : List Loc) (ls : Array Slot), mR G q.2.2.2 H → va_S (mA G) s.heap H locs → lv_has ls 8 [(0, .ref (mo G)), (1, .int y1), (2, .int y2), (3, .int q.1), (4, .int q.2.1), (5, .int y5), (6, .int q.2.2.1)] → W p l e (mRm 2 45) s m args below meth c H locs 0 0 Q (F0 m 54 ls []))) (hE185 : ∀ b, res = Sum.inr b → (∀ (H : Heap) (locs : List Loc) (ls : Array Slot), mR G b.2.2 H → va_S (mA G) s.heap H locs → lv_has ls 8 [(0, .ref (mo G)), (1, .int y1), (2, .int y2), (3, .int b.1), (4, .int b.2.1), (5, .int y5)] → W p l e (mRm 2 45) s m args below meth c H locs 0 0 Q (F0 m 185 ls []))) : (∀ (H : Heap) (locs : List Loc) (ls : Array Slot), mR G q.2.2.2 H → va_S (mA G) s.heap H locs → lv_has ls 8 [(0, .ref (mo G)), (1, .int y1), (2, .int y2), (3, .int q.1), (4, .int q.2.1), (5, .int y5), (6, .int q.2.2.1)] → W p l e (mRm 2 45) s m args below meth c H locs 0 0 Q (F0 m 54 ls [])) := by
  replace hf : (if (q.2.2.2.1 0) ≤ q.2.2.1 then some (Sum.inr (q.1, q.2.1, q.2.2.2)) else (mald q.2.2.2 4 y5).bind (fun v5 => if (fX4_has v5 q.2.2.1) = (0 : Int32) then some (Sum.inl (q.1, q.2.1, q.2.2.1 + (1 : Int32), q.2.2.2)) else (mald q.2.2.2 23 y5).bind (fun v6 => (mald q.2.2.2 23 q.2.2.1).bind (fun v7 => if v7 ≤ v6 then (mald q.2.2.2 23 q.2.2.1).bind (fun v8 => JX4_payments_115 y1 y2 q.1 q.2.1 y5 q.2.2.1 v8 q.2.2.2) else (mald q.2.2.2 23 y5).bind (fun v14 => JX4_payments_115 y1 y2 q.1 q.2.1 y5 q.2.2.1 v14 q.2.2.2))))) = some res := hf
  obtain ⟨hx, hb, hml, hown, hts⟩ := S.1.1
  intro H locs ls hR hS hl
  refine lv_iload hx hb dX4_payments_54 (lv_at hl 6 rfl) ?_
  refine lv_aload_n hx hb dX4_payments_56 rfl (lv_at hl 0 rfl) ?_
  refine m_geti (k := 0) S hR (by decide) (by decide) q2526 dX4_payments_57 ?_
  refine lv_icmp_ge (tgt := 185) hx hb dX4_payments_60 (by decide) (fun c_60 => ?_) (fun c_60 => ?_)
  · replace hf := o_t hf c_60
    exact hE185 _ (Option.some.inj hf).symm _ _ _ hR hS (lv_sub (l' := [(0, .ref (mo G)), (1, .int y1), (2, .int y2), (3, .int q.1), (4, .int q.2.1), (5, .int y5)]) hl [0, 1, 2, 3, 4, 5] rfl)
  · replace hf := o_f hf c_60
    refine lv_aload_n hx hb dX4_payments_63 rfl (lv_at hl 0 rfl) ?_
    refine m_geta (k := 4) S hR (by decide) (by decide) q2530 dX4_payments_64 ?_
    refine lv_iload hx hb dX4_payments_67 (lv_at hl 5 rfl) ?_
    refine k_bind hf (fun v5 hv5 hf => ?_)
    refine m_iald S hR hv5 dX4_payments_69 ?_
    refine lv_iload hx hb dX4_payments_70 (lv_at hl 6 rfl) ?_
    refine s_call (As := [.int v5, .int q.2.2.1]) (rest := []) S.1.1 (met_X4_has rfl) wi_X4_has q2750 ⟨rfl, rfl⟩ ⟨Nat.le_of_ble_eq_true rfl, Nat.le_of_ble_eq_true rfl⟩ rfl hl.1 rfl (Nat.le_of_ble_eq_true rfl) dX4_payments_72 ⟨Nat.zero_le _, Nat.zero_le _⟩ ?_
    refine lv_if_ne (tgt := 81) hx hb dX4_payments_75 (by decide) (fun c_75 => ?_) (fun c_75 => ?_)
    · replace hf := o_f hf c_75
      refine lv_aload_n hx hb dX4_payments_81 rfl (lv_at hl 0 rfl) ?_
      refine m_geta (k := 23) S hR (by decide) (by decide) q2549 dX4_payments_82 ?_
      refine lv_iload hx hb dX4_payments_85 (lv_at hl 5 rfl) ?_
      refine k_bind hf (fun v6 hv6 hf => ?_)
      refine m_iald S hR hv6 dX4_payments_87 ?_
      refine lv_aload_n hx hb dX4_payments_88 rfl (lv_at hl 0 rfl) ?_
      refine m_geta (k := 23) S hR (by decide) (by decide) q2549 dX4_payments_89 ?_
      refine lv_iload hx hb dX4_payments_92 (lv_at hl 6 rfl) ?_
      refine k_bind hf (fun v7 hv7 hf => ?_)
      refine m_iald S hR hv7 dX4_payments_94 ?_
      refine lv_icmp_ge (tgt := 108) hx hb dX4_payments_95 (by decide) (fun c_95 => ?_) (fun c_95 => ?_)
      · replace hf := o_t hf c_95
        refine lv_aload_n hx hb dX4_payments_108 rfl (lv_at hl 0 rfl) ?_
        refine m_geta (k := 23) S hR (by decide) (by decide) q2549 dX4_payments_109 ?_
        refine lv_iload hx hb dX4_payments_112 (lv_at hl 6 rfl) ?_
        refine k_bind hf (fun v8 hv8 hf => ?_)
        refine m_iald S hR hv8 dX4_payments_114 ?_
        exact wJX4_payments_115 S hf hK hE185 _ _ _ hR hS hl
      · replace hf := o_f hf c_95
        refine lv_aload_n hx hb dX4_payments_98 rfl (lv_at hl 0 rfl) ?_
        refine m_geta (k := 23) S hR (by decide) (by decide) q2549 dX4_payments_99 ?_
        refine lv_iload hx hb dX4_payments_102 (lv_at hl 5 rfl) ?_
        refine k_bind hf (fun v14 hv14 hf => ?_)
        refine m_iald S hR hv14 dX4_payments_104 ?_
        refine lv_goto (tgt := 115) hx hb dX4_payments_105 (by decide) ?_
        exact wJX4_payments_115 S hf hK hE185 _ _ _ hR hS hl
    · replace hf := o_t hf c_75
      refine lv_goto (tgt := 179) hx hb dX4_payments_78 (by decide) ?_
      refine lv_iinc (lv' := [(6, .int (q.2.2.1 + (1 : Int32))), (0, .ref (mo G)), (1, .int y1), (2, .int y2), (3, .int q.1), (4, .int q.2.1), (5, .int y5)]) hx hb dX4_payments_179 hl (k := 6) rfl (m_inc (by decide)) (by decide) rfl (fun ls hl => ?_)
      refine lv_goto (tgt := 54) hx hb dX4_payments_182 (by decide) ?_
      exact hK _ (Option.some.inj hf).symm _ _ _ hR hS (lv_sub (l' := [(0, .ref (mo G)), (1, .int y1), (2, .int y2), (3, .int q.1), (4, .int q.2.1), (5, .int y5), (6, .int (q.2.2.1 + (1 : Int32)))]) hl [1, 2, 3, 4, 5, 6, 0] rfl)
set_option maxHeartbeats 4000000 in
set_option maxRecDepth 100000 in
theorem wLX4_payments_54 {l : Launch} {G : mG} {p : Program} {e : Env} {s : State} {m : MethodId} {args : Array Value} {below : List Frame} {meth : Method} {c : Code} {Q : State → Prop} {y1 : Int32} {y2 : Int32} {y5 : Int32} {q : Int32 × Int32 × Int32 × mS} {res : Int32 × Int32 × mS} (S : mSt G p m c cX4_payments 8 s args meth (Option.some Jvm.ClassFile.FieldType.int)) (h : lpw (LX4_payments_54 y1 y2 y5) q = some res) (hE185 : ∀ b, res = b → (∀ (H : Heap) (locs : List Loc) (ls : Array Slot), mR G b.2.2 H → va_S (mA G) s.heap H locs → lv_has ls 8 [(0, .ref (mo G)), (1, .int y1), (2, .int y2), (3, .int b.1), (4, .int b.2.1), (5, .int y5)] → W p l e (mRm 2 45) s m args below meth c H locs 0 0 Q (F0 m 185 ls []))) : (∀ (H : Heap) (locs : List Loc) (ls : Array Slot), mR G q.2.2.2 H → va_S (mA G) s.heap H locs → lv_has ls 8 [(0, .ref (mo G)), (1, .int y1), (2, .int y2), (3, .int q.1), (4, .int q.2.1), (5, .int y5), (6, .int q.2.2.1)] → W p l e (mRm 2 45) s m args below meth c H locs 0 0 Q (F0 m 54 ls [])) :=
  lpw_go _ (fun q => (∀ (H : Heap) (locs : List Loc) (ls : Array Slot), mR G q.2.2.2 H → va_S (mA G) s.heap H locs → lv_has ls 8 [(0, .ref (mo G)), (1, .int y1), (2, .int y2), (3, .int q.1), (4, .int q.2.1), (5, .int y5), (6, .int q.2.2.1)] → W p l e (mRm 2 45) s m args below meth c H locs 0 0 Q (F0 m 54 ls []))) (fun b0 => (∀ b, b0 = b → (∀ (H : Heap) (locs : List Loc) (ls : Array Slot), mR G b.2.2 H → va_S (mA G) s.heap H locs → lv_has ls 8 [(0, .ref (mo G)), (1, .int y1), (2, .int y2), (3, .int b.1), (4, .int b.2.1), (5, .int y5)] → W p l e (mRm 2 45) s m args below meth c H locs 0 0 Q (F0 m 185 ls [])))) (fun q x hf hK hX => wbLX4_payments_54 S hf hK (fun b eb => (hX _ eb) b rfl)) q res h hE185
set_option maxHeartbeats 4000000 in
set_option maxRecDepth 100000 in
theorem wbLX4_payments_39 {l : Launch} {G : mG} {p : Program} {e : Env} {s : State} {m : MethodId} {args : Array Value} {below : List Frame} {meth : Method} {c : Code} {Q : State → Prop} {y1 : Int32} {y2 : Int32} {q : Int32 × Int32 × Int32 × mS} {res : (Int32 × Int32 × Int32 × mS) ⊕ (Int32 × Int32 × mS)} (S : mSt G p m c cX4_payments 8 s args meth (Option.some Jvm.ClassFile.FieldType.int)) (hf : LX4_payments_39 y1 y2 q = some res) (hK : ∀ q, res = Sum.inl q → (∀ (H : Heap) (locs : List Loc) (ls : Array Slot), mR G q.2.2.2 H → va_S (mA G) s.heap H locs → lv_has ls 8 [(0, .ref (mo G)), (1, .int y1), (2, .int y2), (3, .int q.1), (4, .int q.2.1), (5, .int q.2.2.1)] → W p l e (mRm 2 45) s m args below meth c H locs 0 0 Q (F0 m 39 ls []))) (hE191 : ∀ b, res = Sum.inr b → (∀ (H : Heap) (locs : List Loc) (ls : Array Slot), mR G b.2.2 H → va_S (mA G) s.heap H locs → lv_has ls 8 [(0, .ref (mo G)), (1, .int y1), (3, .int b.1), (4, .int b.2.1)] → W p l e (mRm 2 45) s m args below meth c H locs 0 0 Q (F0 m 191 ls []))) : (∀ (H : Heap) (locs : List Loc) (ls : Array Slot), mR G q.2.2.2 H → va_S (mA G) s.heap H locs → lv_has ls 8 [(0, .ref (mo G)), (1, .int y1), (2, .int y2), (3, .int q.1), (4, .int q.2.1), (5, .int q.2.2.1)] → W p l e (mRm 2 45) s m args below meth c H locs 0 0 Q (F0 m 39 ls [])) := by
  replace hf : (if (q.2.2.2.1 0) ≤ q.2.2.1 then some (Sum.inr (q.1, q.2.1, q.2.2.2)) else (some (q.2.2.1 + (1 : Int32))).bind (fun v4 => (lpw (LX4_payments_54 y1 y2 q.2.2.1) (q.1, q.2.1, v4, q.2.2.2)).bind (fun b15 => some (Sum.inl (b15.1, b15.2.1, q.2.2.1 + (1 : Int32), b15.2.2))))) = some res := hf
  obtain ⟨hx, hb, hml, hown, hts⟩ := S.1.1
  intro H locs ls hR hS hl
  refine lv_iload hx hb dX4_payments_39 (lv_at hl 5 rfl) ?_
  refine lv_aload_n hx hb dX4_payments_41 rfl (lv_at hl 0 rfl) ?_
  refine m_geti (k := 0) S hR (by decide) (by decide) q2526 dX4_payments_42 ?_
  refine lv_icmp_ge (tgt := 191) hx hb dX4_payments_45 (by decide) (fun c_45 => ?_) (fun c_45 => ?_)
  · replace hf := o_t hf c_45
    exact hE191 _ (Option.some.inj hf).symm _ _ _ hR hS (lv_sub (l' := [(0, .ref (mo G)), (1, .int y1), (3, .int q.1), (4, .int q.2.1)]) hl [0, 1, 3, 4] rfl)
  · replace hf := o_f hf c_45
    refine lv_iload hx hb dX4_payments_48 (lv_at hl 5 rfl) ?_
    refine lv_iconst (v := 1) hx hb dX4_payments_50 (by decide) ?_
    refine lv_iadd hx hb dX4_payments_51 ?_
    refine k_bind hf (fun v4 hv4 hf => ?_)
    refine m_nmi hv4 ?_
    refine lv_istore (lv' := [(6, .int v4), (0, .ref (mo G)), (1, .int y1), (2, .int y2), (3, .int q.1), (4, .int q.2.1), (5, .int q.2.2.1)]) hx hb dX4_payments_52 hl (by decide) rfl (fun ls hl => ?_)
    refine k_bind hf (fun b15 hb15 hf => ?_)
    refine wLX4_payments_54 S hb15 ?_ _ _ _ hR hS (lv_sub (l' := [(0, .ref (mo G)), (1, .int y1), (2, .int y2), (3, .int q.1), (4, .int q.2.1), (5, .int q.2.2.1), (6, .int v4)]) hl [1, 2, 3, 4, 5, 6, 0] rfl)
    · intro b eb; subst eb; intro H locs ls hR hS hl
      refine lv_iinc (lv' := [(5, .int (q.2.2.1 + (1 : Int32))), (0, .ref (mo G)), (1, .int y1), (2, .int y2), (3, .int b15.1), (4, .int b15.2.1)]) hx hb dX4_payments_185 hl (k := 5) rfl (m_inc (by decide)) (by decide) rfl (fun ls hl => ?_)
      refine lv_goto (tgt := 39) hx hb dX4_payments_188 (by decide) ?_
      exact hK _ (Option.some.inj hf).symm _ _ _ hR hS (lv_sub (l' := [(0, .ref (mo G)), (1, .int y1), (2, .int y2), (3, .int b15.1), (4, .int b15.2.1), (5, .int (q.2.2.1 + (1 : Int32)))]) hl [1, 2, 3, 4, 5, 0] rfl)
set_option maxHeartbeats 4000000 in
set_option maxRecDepth 100000 in
theorem wLX4_payments_39 {l : Launch} {G : mG} {p : Program} {e : Env} {s : State} {m : MethodId} {args : Array Value} {below : List Frame} {meth : Method} {c : Code} {Q : State → Prop} {y1 : Int32} {y2 : Int32} {q : Int32 × Int32 × Int32 × mS} {res : Int32 × Int32 × mS} (S : mSt G p m c cX4_payments 8 s args meth (Option.some Jvm.ClassFile.FieldType.int)) (h : lpw (LX4_payments_39 y1 y2) q = some res) (hE191 : ∀ b, res = b → (∀ (H : Heap) (locs : List Loc) (ls : Array Slot), mR G b.2.2 H → va_S (mA G) s.heap H locs → lv_has ls 8 [(0, .ref (mo G)), (1, .int y1), (3, .int b.1), (4, .int b.2.1)] → W p l e (mRm 2 45) s m args below meth c H locs 0 0 Q (F0 m 191 ls []))) : (∀ (H : Heap) (locs : List Loc) (ls : Array Slot), mR G q.2.2.2 H → va_S (mA G) s.heap H locs → lv_has ls 8 [(0, .ref (mo G)), (1, .int y1), (2, .int y2), (3, .int q.1), (4, .int q.2.1), (5, .int q.2.2.1)] → W p l e (mRm 2 45) s m args below meth c H locs 0 0 Q (F0 m 39 ls [])) :=
  lpw_go _ (fun q => (∀ (H : Heap) (locs : List Loc) (ls : Array Slot), mR G q.2.2.2 H → va_S (mA G) s.heap H locs → lv_has ls 8 [(0, .ref (mo G)), (1, .int y1), (2, .int y2), (3, .int q.1), (4, .int q.2.1), (5, .int q.2.2.1)] → W p l e (mRm 2 45) s m args below meth c H locs 0 0 Q (F0 m 39 ls []))) (fun b0 => (∀ b, b0 = b → (∀ (H : Heap) (locs : List Loc) (ls : Array Slot), mR G b.2.2 H → va_S (mA G) s.heap H locs → lv_has ls 8 [(0, .ref (mo G)), (1, .int y1), (3, .int b.1), (4, .int b.2.1)] → W p l e (mRm 2 45) s m args below meth c H locs 0 0 Q (F0 m 191 ls [])))) (fun q x hf hK hX => wbLX4_payments_39 S hf hK (fun b eb => (hX _ eb) b rfl)) q res h hE191
set_option maxHeartbeats 4000000 in
set_option maxRecDepth 100000 in
theorem met_X4_payments {l : Launch} {G : mG} {x1 : Int32} {x2 : Int32} {σ : mS} {res : Int32 × mS} (hf : fX4_payments x1 x2 σ = some res) : mMet l yX4_payments cX4_payments 8 (Option.some Jvm.ClassFile.FieldType.int) (mRm 2 45) G [.ref (mo G), .int x1, .int x2] σ (some (.int res.1)) res.2 := by
  replace hf : ((lpw (LX4_payments_8 x1 x2 (0 : Int32) (0 : Int32)) ((0 : Int32), σ)).bind (fun b3 => (lpw (LX4_payments_39 x1 x2) ((0 : Int32), (0 : Int32), (0 : Int32), b3)).bind (fun b16 => if x1 = (-1 : Int32) then some (b16.1, b16.2.2) else some (b16.2.1, b16.2.2)))) = some res := hf
  refine m_start (by decide) rfl (Nat.le_of_ble_eq_true rfl) ?_
  intro p e s m args below meth c S hR hS ls hl
  obtain ⟨hx, hb, hml, hown, hts⟩ := S.1.1
  have hl : lv_has ls 8 [(0, .ref (mo G)), (1, .int x1), (2, .int x2)] := hl
  refine lv_iconst (v := 0) hx hb dX4_payments_0 (by decide) ?_
  refine lv_istore_n (lv' := [(3, .int (0 : Int32)), (0, .ref (mo G)), (1, .int x1), (2, .int x2)]) hx hb dX4_payments_1 rfl hl (by decide) rfl (fun ls hl => ?_)
  refine lv_iconst (v := 0) hx hb dX4_payments_2 (by decide) ?_
  refine lv_istore (lv' := [(4, .int (0 : Int32)), (3, .int (0 : Int32)), (0, .ref (mo G)), (1, .int x1), (2, .int x2)]) hx hb dX4_payments_3 hl (by decide) rfl (fun ls hl => ?_)
  refine lv_iconst (v := 0) hx hb dX4_payments_5 (by decide) ?_
  refine lv_istore (lv' := [(5, .int (0 : Int32)), (4, .int (0 : Int32)), (3, .int (0 : Int32)), (0, .ref (mo G)), (1, .int x1), (2, .int x2)]) hx hb dX4_payments_6 hl (by decide) rfl (fun ls hl => ?_)
  refine k_bind hf (fun b3 hb3 hf => ?_)
  refine wLX4_payments_8 S hb3 ?_ _ _ _ hR hS (lv_sub (l' := [(0, .ref (mo G)), (1, .int x1), (2, .int x2), (3, .int (0 : Int32)), (4, .int (0 : Int32)), (5, .int (0 : Int32))]) hl [3, 4, 5, 2, 1, 0] rfl)
  · intro b eb; subst eb; intro H locs ls hR hS hl
    refine lv_iconst (v := 0) hx hb dX4_payments_36 (by decide) ?_
    refine lv_istore (lv' := [(5, .int (0 : Int32)), (0, .ref (mo G)), (1, .int x1), (2, .int x2), (3, .int (0 : Int32)), (4, .int (0 : Int32))]) hx hb dX4_payments_37 hl (by decide) rfl (fun ls hl => ?_)
    refine k_bind hf (fun b16 hb16 hf => ?_)
    refine wLX4_payments_39 S hb16 ?_ _ _ _ hR hS (lv_sub (l' := [(0, .ref (mo G)), (1, .int x1), (2, .int x2), (3, .int (0 : Int32)), (4, .int (0 : Int32)), (5, .int (0 : Int32))]) hl [1, 2, 3, 4, 5, 0] rfl)
    · intro b eb; subst eb; intro H locs ls hR hS hl
      refine lv_iload_n hx hb dX4_payments_191 rfl (lv_at hl 1 rfl) ?_
      refine lv_iconst (v := -1) hx hb dX4_payments_192 (by decide) ?_
      refine lv_icmp_ne (tgt := 200) hx hb dX4_payments_193 (by decide) (fun c_193 => ?_) (fun c_193 => ?_)
      · replace hf := o_f hf c_193
        refine lv_iload hx hb dX4_payments_200 (lv_at hl 3 rfl) ?_
        obtain rfl := Option.some.inj hf
        exact m_iret S hR hS rfl dX4_payments_202
      · replace hf := o_t hf c_193
        refine lv_iload_n hx hb dX4_payments_196 rfl (lv_at hl 2 rfl) ?_
        refine lv_goto (tgt := 202) hx hb dX4_payments_197 (by decide) ?_
        obtain rfl := Option.some.inj hf
        exact m_iret S hR hS rfl dX4_payments_202
