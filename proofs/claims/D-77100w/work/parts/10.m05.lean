/-! the reference, walked: laysHalves halvesWith halves half mayHave first pairsAll mate -/
noncomputable def fX4_laysHalves (x1 : Int32) (σ : mS) : Option (Int32 × mS) :=
  (fX4_leastHalves x1 σ).bind (fun e1 => (fX4_gives 16 (0 : Int32) e1.1 x1 (-1 : Int32) (0 : Int32) e1.2).bind (fun e2 => some (e1.1, e2.2)))
theorem wi_X4_laysHalves : wInfV yX4_laysHalves cX4_laysHalves 4 (Option.some Jvm.ClassFile.FieldType.int) 1 := ⟨q2796, qs69, q116, q2797, (by decide +kernel), (by decide +kernel), (by decide +kernel)⟩
set_option maxHeartbeats 4000000 in
set_option maxRecDepth 100000 in
theorem met_X4_laysHalves {l : Launch} {G : mG} {x1 : Int32} {σ : mS} {res : Int32 × mS} (hf : fX4_laysHalves x1 σ = some res) : mMet l yX4_laysHalves cX4_laysHalves 4 (Option.some Jvm.ClassFile.FieldType.int) (mRm 36 911) G [.ref (mo G), .int x1] σ (some (.int res.1)) res.2 := by
  replace hf : ((fX4_leastHalves x1 σ).bind (fun e1 => (fX4_gives 16 (0 : Int32) e1.1 x1 (-1 : Int32) (0 : Int32) e1.2).bind (fun e2 => some (e1.1, e2.2)))) = some res := hf
  refine m_start (by decide) rfl (Nat.le_of_ble_eq_true rfl) ?_
  intro p e s m args below meth c S hR hS ls hl
  obtain ⟨hx, hb, hml, hown, hts⟩ := S.1.1
  have hl : lv_has ls 4 [(0, .ref (mo G)), (1, .int x1)] := hl
  refine lv_aload_n hx hb dX4_laysHalves_0 rfl (lv_at hl 0 rfl) ?_
  refine lv_iload_n hx hb dX4_laysHalves_1 rfl (lv_at hl 1 rfl) ?_
  refine k_bind hf (fun e1 he1 hf => ?_)
  refine m_call (As := [.int x1]) (rest := []) S hR hS (met_X4_leastHalves he1) wi_X4_leastHalves rfl q2798 ⟨rfl, rfl⟩ ⟨Nat.le_of_ble_eq_true rfl, Nat.le_of_ble_eq_true rfl⟩ rfl hl.1 rfl (Nat.le_of_ble_eq_true rfl) dX4_laysHalves_2 (fun H locs hR hS => ?_)
  refine lv_istore_n (lv' := [(2, .int e1.1), (0, .ref (mo G)), (1, .int x1)]) hx hb dX4_laysHalves_5 rfl hl (by decide) rfl (fun ls hl => ?_)
  refine lv_aload_n hx hb dX4_laysHalves_6 rfl (lv_at hl 1 rfl) ?_
  refine lv_iconst (v := 0) hx hb dX4_laysHalves_7 (by decide) ?_
  refine lv_iload_n hx hb dX4_laysHalves_8 rfl (lv_at hl 0 rfl) ?_
  refine lv_iload_n hx hb dX4_laysHalves_9 rfl (lv_at hl 2 rfl) ?_
  refine lv_iconst (v := -1) hx hb dX4_laysHalves_10 (by decide) ?_
  refine lv_iconst (v := 0) hx hb dX4_laysHalves_11 (by decide) ?_
  refine k_bind hf (fun e2 he2 hf => ?_)
  refine m_call (As := [.int (0 : Int32), .int e1.1, .int x1, .int (-1 : Int32), .int (0 : Int32)]) (rest := []) S hR hS (met_X4_gives he2) wi_X4_gives rfl q2806 ⟨rfl, rfl⟩ ⟨Nat.le_of_ble_eq_true rfl, Nat.le_of_ble_eq_true rfl⟩ rfl hl.1 rfl (Nat.le_of_ble_eq_true rfl) dX4_laysHalves_12 (fun H locs hR hS => ?_)
  refine lv_istore_n (lv' := [(3, .int e2.1), (2, .int e1.1), (0, .ref (mo G)), (1, .int x1)]) hx hb dX4_laysHalves_15 rfl hl (by decide) rfl (fun ls hl => ?_)
  refine lv_iload_n hx hb dX4_laysHalves_16 rfl (lv_at hl 1 rfl) ?_
  obtain rfl := Option.some.inj hf
  exact m_iret S hR hS rfl dX4_laysHalves_17

noncomputable def LX4_halvesWith_5 (y1 : Int32) (y2 : Int32) (σ : mS) (q : Int32 × Int32) : Option ((Int32 × Int32) ⊕ (Int32)) :=
  if (σ.1 0) ≤ q.2 then some (Sum.inr q.1) else if (fX4_has y2 q.2) = (0 : Int32) then (some (q.1 ||| (0 : Int32))).bind (fun v1 => some (Sum.inl (v1, q.2 + (1 : Int32)))) else (mald σ 7 q.2).bind (fun v2 => if v2 = y1 then (some (q.1 ||| (ish (1 : Int32) q.2))).bind (fun v4 => some (Sum.inl (v4, q.2 + (1 : Int32)))) else (some (q.1 ||| (0 : Int32))).bind (fun v3 => some (Sum.inl (v3, q.2 + (1 : Int32)))))
noncomputable def fX4_halvesWith (x1 : Int32) (x2 : Int32) (σ : mS) : Option Int32 :=
  (lpw (LX4_halvesWith_5 x1 x2 σ) ((0 : Int32), (0 : Int32))).bind (fun b5 => some b5)
theorem wi_X4_halvesWith : wInfV yX4_halvesWith cX4_halvesWith 5 (Option.some Jvm.ClassFile.FieldType.int) 2 := ⟨q2816, qs74, q116, q2817, (by decide +kernel), (by decide +kernel), (by decide +kernel)⟩
set_option maxHeartbeats 4000000 in
set_option maxRecDepth 100000 in
theorem wbLX4_halvesWith_5 {l : Launch} {G : mG} {p : Program} {e : Env} {s : State} {m : MethodId} {args : Array Value} {below : List Frame} {meth : Method} {c : Code} {Q : State → Prop} {y1 : Int32} {y2 : Int32} {σ : mS} {q : Int32 × Int32} {res : (Int32 × Int32) ⊕ (Int32)} (S : mSt G p m c cX4_halvesWith 5 s args meth (Option.some Jvm.ClassFile.FieldType.int)) (hf : LX4_halvesWith_5 y1 y2 σ q = some res) (hK : ∀ q, res = Sum.inl q → (∀ (H : Heap) (locs : List Loc) (ls : Array Slot), mR G σ H → va_S (mA G) s.heap H locs → lv_has ls 5 [(0, .ref (mo G)), (1, .int y1), (2, .int y2), (3, .int q.1), (4, .int q.2)] → W p l e (mRm 1 21) s m args below meth c H locs 0 0 Q (F0 m 5 ls []))) (hE51 : ∀ b, res = Sum.inr b → (∀ (H : Heap) (locs : List Loc) (ls : Array Slot), mR G σ H → va_S (mA G) s.heap H locs → lv_has ls 5 [(0, .ref (mo G)), (3, .int b)] → W p l e (mRm 1 21) s m args below meth c H locs 0 0 Q (F0 m 51 ls []))) : (∀ (H : Heap) (locs : List Loc) (ls : Array Slot), mR G σ H → va_S (mA G) s.heap H locs → lv_has ls 5 [(0, .ref (mo G)), (1, .int y1), (2, .int y2), (3, .int q.1), (4, .int q.2)] → W p l e (mRm 1 21) s m args below meth c H locs 0 0 Q (F0 m 5 ls [])) := by
  replace hf : (if (σ.1 0) ≤ q.2 then some (Sum.inr q.1) else if (fX4_has y2 q.2) = (0 : Int32) then (some (q.1 ||| (0 : Int32))).bind (fun v1 => some (Sum.inl (v1, q.2 + (1 : Int32)))) else (mald σ 7 q.2).bind (fun v2 => if v2 = y1 then (some (q.1 ||| (ish (1 : Int32) q.2))).bind (fun v4 => some (Sum.inl (v4, q.2 + (1 : Int32)))) else (some (q.1 ||| (0 : Int32))).bind (fun v3 => some (Sum.inl (v3, q.2 + (1 : Int32)))))) = some res := hf
  obtain ⟨hx, hb, hml, hown, hts⟩ := S.1.1
  intro H locs ls hR hS hl
  refine lv_iload hx hb dX4_halvesWith_5 (lv_at hl 4 rfl) ?_
  refine lv_aload_n hx hb dX4_halvesWith_7 rfl (lv_at hl 0 rfl) ?_
  refine m_geti (k := 0) S hR (by decide) (by decide) q2526 dX4_halvesWith_8 ?_
  refine lv_icmp_ge (tgt := 51) hx hb dX4_halvesWith_11 (by decide) (fun c_11 => ?_) (fun c_11 => ?_)
  · replace hf := o_t hf c_11
    exact hE51 _ (Option.some.inj hf).symm _ _ _ hR hS (lv_sub (l' := [(0, .ref (mo G)), (3, .int q.1)]) hl [0, 3] rfl)
  · replace hf := o_f hf c_11
    refine lv_iload_n hx hb dX4_halvesWith_14 rfl (lv_at hl 3 rfl) ?_
    refine lv_iload_n hx hb dX4_halvesWith_15 rfl (lv_at hl 2 rfl) ?_
    refine lv_iload hx hb dX4_halvesWith_16 (lv_at hl 4 rfl) ?_
    refine s_call (As := [.int y2, .int q.2]) (rest := [.int q.1]) S.1.1 (met_X4_has rfl) wi_X4_has q2750 ⟨rfl, rfl⟩ ⟨Nat.le_of_ble_eq_true rfl, Nat.le_of_ble_eq_true rfl⟩ rfl hl.1 rfl (Nat.le_of_ble_eq_true rfl) dX4_halvesWith_18 ⟨Nat.zero_le _, Nat.zero_le _⟩ ?_
    refine lv_if_eq (tgt := 42) hx hb dX4_halvesWith_21 (by decide) (fun c_21 => ?_) (fun c_21 => ?_)
    · replace hf := o_t hf c_21
      refine lv_iconst (v := 0) hx hb dX4_halvesWith_42 (by decide) ?_
      refine lv_ior hx hb dX4_halvesWith_43 ?_
      refine k_bind hf (fun v1 hv1 hf => ?_)
      refine m_nmi hv1 ?_
      refine lv_istore_n (lv' := [(3, .int v1), (0, .ref (mo G)), (1, .int y1), (2, .int y2), (4, .int q.2)]) hx hb dX4_halvesWith_44 rfl hl (by decide) rfl (fun ls hl => ?_)
      refine lv_iinc (lv' := [(4, .int (q.2 + (1 : Int32))), (3, .int v1), (0, .ref (mo G)), (1, .int y1), (2, .int y2)]) hx hb dX4_halvesWith_45 hl (k := 4) rfl (m_inc (by decide)) (by decide) rfl (fun ls hl => ?_)
      refine lv_goto (tgt := 5) hx hb dX4_halvesWith_48 (by decide) ?_
      exact hK _ (Option.some.inj hf).symm _ _ _ hR hS (lv_sub (l' := [(0, .ref (mo G)), (1, .int y1), (2, .int y2), (3, .int v1), (4, .int (q.2 + (1 : Int32)))]) hl [2, 3, 4, 1, 0] rfl)
    · replace hf := o_f hf c_21
      refine lv_aload_n hx hb dX4_halvesWith_24 rfl (lv_at hl 0 rfl) ?_
      refine m_geta (k := 7) S hR (by decide) (by decide) q2533 dX4_halvesWith_25 ?_
      refine lv_iload hx hb dX4_halvesWith_28 (lv_at hl 4 rfl) ?_
      refine k_bind hf (fun v2 hv2 hf => ?_)
      refine m_iald S hR hv2 dX4_halvesWith_30 ?_
      refine lv_iload_n hx hb dX4_halvesWith_31 rfl (lv_at hl 1 rfl) ?_
      refine lv_icmp_ne (tgt := 42) hx hb dX4_halvesWith_32 (by decide) (fun c_32 => ?_) (fun c_32 => ?_)
      · replace hf := o_f hf c_32
        refine lv_iconst (v := 0) hx hb dX4_halvesWith_42 (by decide) ?_
        refine lv_ior hx hb dX4_halvesWith_43 ?_
        refine k_bind hf (fun v3 hv3 hf => ?_)
        refine m_nmi hv3 ?_
        refine lv_istore_n (lv' := [(3, .int v3), (0, .ref (mo G)), (1, .int y1), (2, .int y2), (4, .int q.2)]) hx hb dX4_halvesWith_44 rfl hl (by decide) rfl (fun ls hl => ?_)
        refine lv_iinc (lv' := [(4, .int (q.2 + (1 : Int32))), (3, .int v3), (0, .ref (mo G)), (1, .int y1), (2, .int y2)]) hx hb dX4_halvesWith_45 hl (k := 4) rfl (m_inc (by decide)) (by decide) rfl (fun ls hl => ?_)
        refine lv_goto (tgt := 5) hx hb dX4_halvesWith_48 (by decide) ?_
        exact hK _ (Option.some.inj hf).symm _ _ _ hR hS (lv_sub (l' := [(0, .ref (mo G)), (1, .int y1), (2, .int y2), (3, .int v3), (4, .int (q.2 + (1 : Int32)))]) hl [2, 3, 4, 1, 0] rfl)
      · replace hf := o_t hf c_32
        refine lv_iconst (v := 1) hx hb dX4_halvesWith_35 (by decide) ?_
        refine lv_iload hx hb dX4_halvesWith_36 (lv_at hl 4 rfl) ?_
        refine lv_ishl hx hb dX4_halvesWith_38 ?_
        refine lv_goto (tgt := 43) hx hb dX4_halvesWith_39 (by decide) ?_
        refine lv_ior hx hb dX4_halvesWith_43 ?_
        refine k_bind hf (fun v4 hv4 hf => ?_)
        refine m_nmi hv4 ?_
        refine lv_istore_n (lv' := [(3, .int v4), (0, .ref (mo G)), (1, .int y1), (2, .int y2), (4, .int q.2)]) hx hb dX4_halvesWith_44 rfl hl (by decide) rfl (fun ls hl => ?_)
        refine lv_iinc (lv' := [(4, .int (q.2 + (1 : Int32))), (3, .int v4), (0, .ref (mo G)), (1, .int y1), (2, .int y2)]) hx hb dX4_halvesWith_45 hl (k := 4) rfl (m_inc (by decide)) (by decide) rfl (fun ls hl => ?_)
        refine lv_goto (tgt := 5) hx hb dX4_halvesWith_48 (by decide) ?_
        exact hK _ (Option.some.inj hf).symm _ _ _ hR hS (lv_sub (l' := [(0, .ref (mo G)), (1, .int y1), (2, .int y2), (3, .int v4), (4, .int (q.2 + (1 : Int32)))]) hl [2, 3, 4, 1, 0] rfl)
set_option maxHeartbeats 4000000 in
set_option maxRecDepth 100000 in
theorem wLX4_halvesWith_5 {l : Launch} {G : mG} {p : Program} {e : Env} {s : State} {m : MethodId} {args : Array Value} {below : List Frame} {meth : Method} {c : Code} {Q : State → Prop} {y1 : Int32} {y2 : Int32} {σ : mS} {q : Int32 × Int32} {res : Int32} (S : mSt G p m c cX4_halvesWith 5 s args meth (Option.some Jvm.ClassFile.FieldType.int)) (h : lpw (LX4_halvesWith_5 y1 y2 σ) q = some res) (hE51 : ∀ b, res = b → (∀ (H : Heap) (locs : List Loc) (ls : Array Slot), mR G σ H → va_S (mA G) s.heap H locs → lv_has ls 5 [(0, .ref (mo G)), (3, .int b)] → W p l e (mRm 1 21) s m args below meth c H locs 0 0 Q (F0 m 51 ls []))) : (∀ (H : Heap) (locs : List Loc) (ls : Array Slot), mR G σ H → va_S (mA G) s.heap H locs → lv_has ls 5 [(0, .ref (mo G)), (1, .int y1), (2, .int y2), (3, .int q.1), (4, .int q.2)] → W p l e (mRm 1 21) s m args below meth c H locs 0 0 Q (F0 m 5 ls [])) :=
  lpw_go _ (fun q => (∀ (H : Heap) (locs : List Loc) (ls : Array Slot), mR G σ H → va_S (mA G) s.heap H locs → lv_has ls 5 [(0, .ref (mo G)), (1, .int y1), (2, .int y2), (3, .int q.1), (4, .int q.2)] → W p l e (mRm 1 21) s m args below meth c H locs 0 0 Q (F0 m 5 ls []))) (fun b0 => (∀ b, b0 = b → (∀ (H : Heap) (locs : List Loc) (ls : Array Slot), mR G σ H → va_S (mA G) s.heap H locs → lv_has ls 5 [(0, .ref (mo G)), (3, .int b)] → W p l e (mRm 1 21) s m args below meth c H locs 0 0 Q (F0 m 51 ls [])))) (fun q x hf hK hX => wbLX4_halvesWith_5 S hf hK (fun b eb => (hX _ eb) b rfl)) q res h hE51
set_option maxHeartbeats 4000000 in
set_option maxRecDepth 100000 in
theorem met_X4_halvesWith {l : Launch} {G : mG} {x1 : Int32} {x2 : Int32} {σ : mS} {res : Int32} (hf : fX4_halvesWith x1 x2 σ = some res) : mMet l yX4_halvesWith cX4_halvesWith 5 (Option.some Jvm.ClassFile.FieldType.int) (mRm 1 21) G [.ref (mo G), .int x1, .int x2] σ (some (.int res)) σ := by
  replace hf : ((lpw (LX4_halvesWith_5 x1 x2 σ) ((0 : Int32), (0 : Int32))).bind (fun b5 => some b5)) = some res := hf
  refine m_start (by decide) rfl (Nat.le_of_ble_eq_true rfl) ?_
  intro p e s m args below meth c S hR hS ls hl
  obtain ⟨hx, hb, hml, hown, hts⟩ := S.1.1
  have hl : lv_has ls 5 [(0, .ref (mo G)), (1, .int x1), (2, .int x2)] := hl
  refine lv_iconst (v := 0) hx hb dX4_halvesWith_0 (by decide) ?_
  refine lv_istore_n (lv' := [(3, .int (0 : Int32)), (0, .ref (mo G)), (1, .int x1), (2, .int x2)]) hx hb dX4_halvesWith_1 rfl hl (by decide) rfl (fun ls hl => ?_)
  refine lv_iconst (v := 0) hx hb dX4_halvesWith_2 (by decide) ?_
  refine lv_istore (lv' := [(4, .int (0 : Int32)), (3, .int (0 : Int32)), (0, .ref (mo G)), (1, .int x1), (2, .int x2)]) hx hb dX4_halvesWith_3 hl (by decide) rfl (fun ls hl => ?_)
  refine k_bind hf (fun b5 hb5 hf => ?_)
  refine wLX4_halvesWith_5 S hb5 ?_ _ _ _ hR hS (lv_sub (l' := [(0, .ref (mo G)), (1, .int x1), (2, .int x2), (3, .int (0 : Int32)), (4, .int (0 : Int32))]) hl [2, 3, 4, 1, 0] rfl)
  · intro b eb; subst eb; intro H locs ls hR hS hl
    refine lv_iload_n hx hb dX4_halvesWith_51 rfl (lv_at hl 1 rfl) ?_
    obtain rfl := Option.some.inj hf
    exact m_iret S hR hS rfl dX4_halvesWith_52

noncomputable def fX4_halves (x1 : Int32) (σ : mS) : Option (Int32 × mS) :=
  if (fX4_in x1 (0 : Int32) (3 : Int32)) = (0 : Int32) then some ((-2 : Int32), σ) else (fX4_laysHalves (fX4_all σ) σ).bind (fun e1 => if x1 = (0 : Int32) then some (e1.1, e1.2) else (fX4_halvesWith (x1 - (1 : Int32)) (fX4_all e1.2) e1.2).bind (fun v2 => some (v2, e1.2)))
theorem wi_X4_halves : wInfV yX4_halves cX4_halves 3 (Option.some Jvm.ClassFile.FieldType.int) 1 := ⟨q2791, q2792, q116, q2793, (by decide +kernel), (by decide +kernel), (by decide +kernel)⟩
set_option maxHeartbeats 4000000 in
set_option maxRecDepth 100000 in
theorem met_X4_halves {l : Launch} {G : mG} {x1 : Int32} {σ : mS} {res : Int32 × mS} (hf : fX4_halves x1 σ = some res) : mMet l yX4_halves cX4_halves 3 (Option.some Jvm.ClassFile.FieldType.int) (mRm 37 934) G [.ref (mo G), .int x1] σ (some (.int res.1)) res.2 := by
  replace hf : (if (fX4_in x1 (0 : Int32) (3 : Int32)) = (0 : Int32) then some ((-2 : Int32), σ) else (fX4_laysHalves (fX4_all σ) σ).bind (fun e1 => if x1 = (0 : Int32) then some (e1.1, e1.2) else (fX4_halvesWith (x1 - (1 : Int32)) (fX4_all e1.2) e1.2).bind (fun v2 => some (v2, e1.2)))) = some res := hf
  refine m_start (by decide) rfl (Nat.le_of_ble_eq_true rfl) ?_
  intro p e s m args below meth c S hR hS ls hl
  obtain ⟨hx, hb, hml, hown, hts⟩ := S.1.1
  have hl : lv_has ls 3 [(0, .ref (mo G)), (1, .int x1)] := hl
  refine lv_iload_n hx hb dX4_halves_0 rfl (lv_at hl 1 rfl) ?_
  refine lv_iconst (v := 0) hx hb dX4_halves_1 (by decide) ?_
  refine lv_iconst (v := 3) hx hb dX4_halves_2 (by decide) ?_
  refine s_call (As := [.int x1, .int (0 : Int32), .int (3 : Int32)]) (rest := []) S.1.1 (met_X4_in rfl) wi_X4_in q2681 ⟨rfl, rfl⟩ ⟨Nat.le_of_ble_eq_true rfl, Nat.le_of_ble_eq_true rfl⟩ rfl hl.1 rfl (Nat.le_of_ble_eq_true rfl) dX4_halves_3 ⟨Nat.zero_le _, Nat.zero_le _⟩ ?_
  refine lv_if_ne (tgt := 12) hx hb dX4_halves_6 (by decide) (fun c_6 => ?_) (fun c_6 => ?_)
  · replace hf := o_f hf c_6
    refine lv_aload_n hx hb dX4_halves_12 rfl (lv_at hl 0 rfl) ?_
    refine lv_aload_n hx hb dX4_halves_13 rfl (lv_at hl 0 rfl) ?_
    refine m_call (As := []) (rest := [.ref (mo G)]) S hR hS (met_X4_all rfl) wi_X4_all rfl q2738 ⟨rfl, rfl⟩ ⟨Nat.le_of_ble_eq_true rfl, Nat.le_of_ble_eq_true rfl⟩ rfl hl.1 rfl (Nat.le_of_ble_eq_true rfl) dX4_halves_14 (fun H locs hR hS => ?_)
    refine k_bind hf (fun e1 he1 hf => ?_)
    refine m_call (As := [.int (fX4_all σ)]) (rest := []) S hR hS (met_X4_laysHalves he1) wi_X4_laysHalves rfl q2794 ⟨rfl, rfl⟩ ⟨Nat.le_of_ble_eq_true rfl, Nat.le_of_ble_eq_true rfl⟩ rfl hl.1 rfl (Nat.le_of_ble_eq_true rfl) dX4_halves_17 (fun H locs hR hS => ?_)
    refine lv_istore_n (lv' := [(2, .int e1.1), (0, .ref (mo G)), (1, .int x1)]) hx hb dX4_halves_20 rfl hl (by decide) rfl (fun ls hl => ?_)
    refine lv_iload_n hx hb dX4_halves_21 rfl (lv_at hl 2 rfl) ?_
    refine lv_if_ne (tgt := 29) hx hb dX4_halves_22 (by decide) (fun c_22 => ?_) (fun c_22 => ?_)
    · replace hf := o_f hf c_22
      refine lv_aload_n hx hb dX4_halves_29 rfl (lv_at hl 1 rfl) ?_
      refine lv_iload_n hx hb dX4_halves_30 rfl (lv_at hl 2 rfl) ?_
      refine lv_iconst (v := 1) hx hb dX4_halves_31 (by decide) ?_
      refine lv_isub hx hb dX4_halves_32 ?_
      refine lv_aload_n hx hb dX4_halves_33 rfl (lv_at hl 1 rfl) ?_
      refine m_call (As := []) (rest := [.int (x1 - (1 : Int32)), .ref (mo G)]) S hR hS (met_X4_all rfl) wi_X4_all rfl q2738 ⟨rfl, rfl⟩ ⟨Nat.le_of_ble_eq_true rfl, Nat.le_of_ble_eq_true rfl⟩ rfl hl.1 rfl (Nat.le_of_ble_eq_true rfl) dX4_halves_34 (fun H locs hR hS => ?_)
      refine k_bind hf (fun v2 hv2 hf => ?_)
      refine m_call (As := [.int (x1 - (1 : Int32)), .int (fX4_all e1.2)]) (rest := []) S hR hS (met_X4_halvesWith hv2) wi_X4_halvesWith rfl q2814 ⟨rfl, rfl⟩ ⟨Nat.le_of_ble_eq_true rfl, Nat.le_of_ble_eq_true rfl⟩ rfl hl.1 rfl (Nat.le_of_ble_eq_true rfl) dX4_halves_37 (fun H locs hR hS => ?_)
      obtain rfl := Option.some.inj hf
      exact m_iret S hR hS rfl dX4_halves_40
    · replace hf := o_t hf c_22
      refine lv_iload_n hx hb dX4_halves_25 rfl (lv_at hl 0 rfl) ?_
      refine lv_goto (tgt := 40) hx hb dX4_halves_26 (by decide) ?_
      obtain rfl := Option.some.inj hf
      exact m_iret S hR hS rfl dX4_halves_40
  · replace hf := o_t hf c_6
    refine lv_bipush (v := -2) hx hb dX4_halves_9 (by decide) ?_
    obtain rfl := Option.some.inj hf
    exact m_iret S hR hS rfl dX4_halves_11

noncomputable def fX4_half (x1 : Int32) (σ : mS) : Option (Int32 × mS) :=
  if (fX4_isPoint x1 σ) = (0 : Int32) then some ((-2 : Int32), σ) else (fX4_laysHalves (fX4_all σ) σ).bind (fun e1 => (mald e1.2 7 x1).bind (fun v2 => some (v2, e1.2)))
theorem wi_X4_half : wInfV yX4_half cX4_half 3 (Option.some Jvm.ClassFile.FieldType.int) 1 := ⟨q2819, q2820, q116, q2821, (by decide +kernel), (by decide +kernel), (by decide +kernel)⟩
set_option maxHeartbeats 4000000 in
set_option maxRecDepth 100000 in
theorem met_X4_half {l : Launch} {G : mG} {x1 : Int32} {σ : mS} {res : Int32 × mS} (hf : fX4_half x1 σ = some res) : mMet l yX4_half cX4_half 3 (Option.some Jvm.ClassFile.FieldType.int) (mRm 37 934) G [.ref (mo G), .int x1] σ (some (.int res.1)) res.2 := by
  replace hf : (if (fX4_isPoint x1 σ) = (0 : Int32) then some ((-2 : Int32), σ) else (fX4_laysHalves (fX4_all σ) σ).bind (fun e1 => (mald e1.2 7 x1).bind (fun v2 => some (v2, e1.2)))) = some res := hf
  refine m_start (by decide) rfl (Nat.le_of_ble_eq_true rfl) ?_
  intro p e s m args below meth c S hR hS ls hl
  obtain ⟨hx, hb, hml, hown, hts⟩ := S.1.1
  have hl : lv_has ls 3 [(0, .ref (mo G)), (1, .int x1)] := hl
  refine lv_aload_n hx hb dX4_half_0 rfl (lv_at hl 0 rfl) ?_
  refine lv_iload_n hx hb dX4_half_1 rfl (lv_at hl 1 rfl) ?_
  refine m_call (As := [.int x1]) (rest := []) S hR hS (met_X4_isPoint rfl) wi_X4_isPoint rfl q2696 ⟨rfl, rfl⟩ ⟨Nat.le_of_ble_eq_true rfl, Nat.le_of_ble_eq_true rfl⟩ rfl hl.1 rfl (Nat.le_of_ble_eq_true rfl) dX4_half_2 (fun H locs hR hS => ?_)
  refine lv_if_ne (tgt := 11) hx hb dX4_half_5 (by decide) (fun c_5 => ?_) (fun c_5 => ?_)
  · replace hf := o_f hf c_5
    refine lv_aload_n hx hb dX4_half_11 rfl (lv_at hl 0 rfl) ?_
    refine lv_aload_n hx hb dX4_half_12 rfl (lv_at hl 0 rfl) ?_
    refine m_call (As := []) (rest := [.ref (mo G)]) S hR hS (met_X4_all rfl) wi_X4_all rfl q2738 ⟨rfl, rfl⟩ ⟨Nat.le_of_ble_eq_true rfl, Nat.le_of_ble_eq_true rfl⟩ rfl hl.1 rfl (Nat.le_of_ble_eq_true rfl) dX4_half_13 (fun H locs hR hS => ?_)
    refine k_bind hf (fun e1 he1 hf => ?_)
    refine m_call (As := [.int (fX4_all σ)]) (rest := []) S hR hS (met_X4_laysHalves he1) wi_X4_laysHalves rfl q2794 ⟨rfl, rfl⟩ ⟨Nat.le_of_ble_eq_true rfl, Nat.le_of_ble_eq_true rfl⟩ rfl hl.1 rfl (Nat.le_of_ble_eq_true rfl) dX4_half_16 (fun H locs hR hS => ?_)
    refine lv_istore_n (lv' := [(2, .int e1.1), (0, .ref (mo G)), (1, .int x1)]) hx hb dX4_half_19 rfl hl (by decide) rfl (fun ls hl => ?_)
    refine lv_aload_n hx hb dX4_half_20 rfl (lv_at hl 1 rfl) ?_
    refine m_geta (k := 7) S hR (by decide) (by decide) q2533 dX4_half_21 ?_
    refine lv_iload_n hx hb dX4_half_24 rfl (lv_at hl 2 rfl) ?_
    refine k_bind hf (fun v2 hv2 hf => ?_)
    refine m_iald S hR hv2 dX4_half_25 ?_
    obtain rfl := Option.some.inj hf
    exact m_iret S hR hS rfl dX4_half_26
  · replace hf := o_t hf c_5
    refine lv_bipush (v := -2) hx hb dX4_half_8 (by decide) ?_
    obtain rfl := Option.some.inj hf
    exact m_iret S hR hS rfl dX4_half_10

noncomputable def LX4_mayHave_25 (y1 : Int32) (y2 : Int32) (q : Int32 × Int32 × mS) : Option ((Int32 × Int32 × mS) ⊕ (Int32 × mS)) :=
  if (3 : Int32) ≤ q.2.1 then some (Sum.inr (q.1, q.2.2)) else (fX4_gives 16 (0 : Int32) y2 (fX4_all q.2.2) y1 q.2.1 q.2.2).bind (fun e2 => if e2.1 = (0 : Int32) then (some (q.1 ||| (0 : Int32))).bind (fun v3 => some (Sum.inl (v3, q.2.1 + (1 : Int32), e2.2))) else (some (q.1 ||| (ish (1 : Int32) q.2.1))).bind (fun v4 => some (Sum.inl (v4, q.2.1 + (1 : Int32), e2.2))))
noncomputable def fX4_mayHave (x1 : Int32) (σ : mS) : Option (Int32 × mS) :=
  if (fX4_isPoint x1 σ) = (0 : Int32) then some ((-2 : Int32), σ) else (fX4_leastHalves (fX4_all σ) σ).bind (fun e1 => (lpw (LX4_mayHave_25 x1 e1.1) ((0 : Int32), (0 : Int32), e1.2)).bind (fun b5 => some (b5.1, b5.2)))
theorem wi_X4_mayHave : wInfV yX4_mayHave cX4_mayHave 5 (Option.some Jvm.ClassFile.FieldType.int) 1 := ⟨q2823, q2824, q116, q2825, (by decide +kernel), (by decide +kernel), (by decide +kernel)⟩
set_option maxHeartbeats 4000000 in
set_option maxRecDepth 100000 in
theorem wbLX4_mayHave_25 {l : Launch} {G : mG} {p : Program} {e : Env} {s : State} {m : MethodId} {args : Array Value} {below : List Frame} {meth : Method} {c : Code} {Q : State → Prop} {y1 : Int32} {y2 : Int32} {q : Int32 × Int32 × mS} {res : (Int32 × Int32 × mS) ⊕ (Int32 × mS)} (S : mSt G p m c cX4_mayHave 5 s args meth (Option.some Jvm.ClassFile.FieldType.int)) (hf : LX4_mayHave_25 y1 y2 q = some res) (hK : ∀ q, res = Sum.inl q → (∀ (H : Heap) (locs : List Loc) (ls : Array Slot), mR G q.2.2 H → va_S (mA G) s.heap H locs → lv_has ls 5 [(0, .ref (mo G)), (1, .int y1), (2, .int y2), (3, .int q.1), (4, .int q.2.1)] → W p l e (mRm 36 911) s m args below meth c H locs 0 0 Q (F0 m 25 ls []))) (hE64 : ∀ b, res = Sum.inr b → (∀ (H : Heap) (locs : List Loc) (ls : Array Slot), mR G b.2 H → va_S (mA G) s.heap H locs → lv_has ls 5 [(0, .ref (mo G)), (3, .int b.1)] → W p l e (mRm 36 911) s m args below meth c H locs 0 0 Q (F0 m 64 ls []))) : (∀ (H : Heap) (locs : List Loc) (ls : Array Slot), mR G q.2.2 H → va_S (mA G) s.heap H locs → lv_has ls 5 [(0, .ref (mo G)), (1, .int y1), (2, .int y2), (3, .int q.1), (4, .int q.2.1)] → W p l e (mRm 36 911) s m args below meth c H locs 0 0 Q (F0 m 25 ls [])) := by
  replace hf : (if (3 : Int32) ≤ q.2.1 then some (Sum.inr (q.1, q.2.2)) else (fX4_gives 16 (0 : Int32) y2 (fX4_all q.2.2) y1 q.2.1 q.2.2).bind (fun e2 => if e2.1 = (0 : Int32) then (some (q.1 ||| (0 : Int32))).bind (fun v3 => some (Sum.inl (v3, q.2.1 + (1 : Int32), e2.2))) else (some (q.1 ||| (ish (1 : Int32) q.2.1))).bind (fun v4 => some (Sum.inl (v4, q.2.1 + (1 : Int32), e2.2))))) = some res := hf
  obtain ⟨hx, hb, hml, hown, hts⟩ := S.1.1
  intro H locs ls hR hS hl
  refine lv_iload hx hb dX4_mayHave_25 (lv_at hl 4 rfl) ?_
  refine lv_iconst (v := 3) hx hb dX4_mayHave_27 (by decide) ?_
  refine lv_icmp_ge (tgt := 64) hx hb dX4_mayHave_28 (by decide) (fun c_28 => ?_) (fun c_28 => ?_)
  · replace hf := o_t hf c_28
    exact hE64 _ (Option.some.inj hf).symm _ _ _ hR hS (lv_sub (l' := [(0, .ref (mo G)), (3, .int q.1)]) hl [0, 3] rfl)
  · replace hf := o_f hf c_28
    refine lv_iload_n hx hb dX4_mayHave_31 rfl (lv_at hl 3 rfl) ?_
    refine lv_aload_n hx hb dX4_mayHave_32 rfl (lv_at hl 0 rfl) ?_
    refine lv_iconst (v := 0) hx hb dX4_mayHave_33 (by decide) ?_
    refine lv_iload_n hx hb dX4_mayHave_34 rfl (lv_at hl 2 rfl) ?_
    refine lv_aload_n hx hb dX4_mayHave_35 rfl (lv_at hl 0 rfl) ?_
    refine m_call (As := []) (rest := [.int y2, .int (0 : Int32), .ref (mo G), .int q.1]) S hR hS (met_X4_all rfl) wi_X4_all rfl q2738 ⟨rfl, rfl⟩ ⟨Nat.le_of_ble_eq_true rfl, Nat.le_of_ble_eq_true rfl⟩ rfl hl.1 rfl (Nat.le_of_ble_eq_true rfl) dX4_mayHave_36 (fun H locs hR hS => ?_)
    refine lv_iload_n hx hb dX4_mayHave_39 rfl (lv_at hl 1 rfl) ?_
    refine lv_iload hx hb dX4_mayHave_40 (lv_at hl 4 rfl) ?_
    refine k_bind hf (fun e2 he2 hf => ?_)
    refine m_call (As := [.int (0 : Int32), .int y2, .int (fX4_all q.2.2), .int y1, .int q.2.1]) (rest := [.int q.1]) S hR hS (met_X4_gives he2) wi_X4_gives rfl q2806 ⟨rfl, rfl⟩ ⟨Nat.le_of_ble_eq_true rfl, Nat.le_of_ble_eq_true rfl⟩ rfl hl.1 rfl (Nat.le_of_ble_eq_true rfl) dX4_mayHave_42 (fun H locs hR hS => ?_)
    refine lv_if_eq (tgt := 55) hx hb dX4_mayHave_45 (by decide) (fun c_45 => ?_) (fun c_45 => ?_)
    · replace hf := o_t hf c_45
      refine lv_iconst (v := 0) hx hb dX4_mayHave_55 (by decide) ?_
      refine lv_ior hx hb dX4_mayHave_56 ?_
      refine k_bind hf (fun v3 hv3 hf => ?_)
      refine m_nmi hv3 ?_
      refine lv_istore_n (lv' := [(3, .int v3), (0, .ref (mo G)), (1, .int y1), (2, .int y2), (4, .int q.2.1)]) hx hb dX4_mayHave_57 rfl hl (by decide) rfl (fun ls hl => ?_)
      refine lv_iinc (lv' := [(4, .int (q.2.1 + (1 : Int32))), (3, .int v3), (0, .ref (mo G)), (1, .int y1), (2, .int y2)]) hx hb dX4_mayHave_58 hl (k := 4) rfl (m_inc (by decide)) (by decide) rfl (fun ls hl => ?_)
      refine lv_goto (tgt := 25) hx hb dX4_mayHave_61 (by decide) ?_
      exact hK _ (Option.some.inj hf).symm _ _ _ hR hS (lv_sub (l' := [(0, .ref (mo G)), (1, .int y1), (2, .int y2), (3, .int v3), (4, .int (q.2.1 + (1 : Int32)))]) hl [2, 3, 4, 1, 0] rfl)
    · replace hf := o_f hf c_45
      refine lv_iconst (v := 1) hx hb dX4_mayHave_48 (by decide) ?_
      refine lv_iload hx hb dX4_mayHave_49 (lv_at hl 4 rfl) ?_
      refine lv_ishl hx hb dX4_mayHave_51 ?_
      refine lv_goto (tgt := 56) hx hb dX4_mayHave_52 (by decide) ?_
      refine lv_ior hx hb dX4_mayHave_56 ?_
      refine k_bind hf (fun v4 hv4 hf => ?_)
      refine m_nmi hv4 ?_
      refine lv_istore_n (lv' := [(3, .int v4), (0, .ref (mo G)), (1, .int y1), (2, .int y2), (4, .int q.2.1)]) hx hb dX4_mayHave_57 rfl hl (by decide) rfl (fun ls hl => ?_)
      refine lv_iinc (lv' := [(4, .int (q.2.1 + (1 : Int32))), (3, .int v4), (0, .ref (mo G)), (1, .int y1), (2, .int y2)]) hx hb dX4_mayHave_58 hl (k := 4) rfl (m_inc (by decide)) (by decide) rfl (fun ls hl => ?_)
      refine lv_goto (tgt := 25) hx hb dX4_mayHave_61 (by decide) ?_
      exact hK _ (Option.some.inj hf).symm _ _ _ hR hS (lv_sub (l' := [(0, .ref (mo G)), (1, .int y1), (2, .int y2), (3, .int v4), (4, .int (q.2.1 + (1 : Int32)))]) hl [2, 3, 4, 1, 0] rfl)
set_option maxHeartbeats 4000000 in
set_option maxRecDepth 100000 in
theorem wLX4_mayHave_25 {l : Launch} {G : mG} {p : Program} {e : Env} {s : State} {m : MethodId} {args : Array Value} {below : List Frame} {meth : Method} {c : Code} {Q : State → Prop} {y1 : Int32} {y2 : Int32} {q : Int32 × Int32 × mS} {res : Int32 × mS} (S : mSt G p m c cX4_mayHave 5 s args meth (Option.some Jvm.ClassFile.FieldType.int)) (h : lpw (LX4_mayHave_25 y1 y2) q = some res) (hE64 : ∀ b, res = b → (∀ (H : Heap) (locs : List Loc) (ls : Array Slot), mR G b.2 H → va_S (mA G) s.heap H locs → lv_has ls 5 [(0, .ref (mo G)), (3, .int b.1)] → W p l e (mRm 36 911) s m args below meth c H locs 0 0 Q (F0 m 64 ls []))) : (∀ (H : Heap) (locs : List Loc) (ls : Array Slot), mR G q.2.2 H → va_S (mA G) s.heap H locs → lv_has ls 5 [(0, .ref (mo G)), (1, .int y1), (2, .int y2), (3, .int q.1), (4, .int q.2.1)] → W p l e (mRm 36 911) s m args below meth c H locs 0 0 Q (F0 m 25 ls [])) :=
  lpw_go _ (fun q => (∀ (H : Heap) (locs : List Loc) (ls : Array Slot), mR G q.2.2 H → va_S (mA G) s.heap H locs → lv_has ls 5 [(0, .ref (mo G)), (1, .int y1), (2, .int y2), (3, .int q.1), (4, .int q.2.1)] → W p l e (mRm 36 911) s m args below meth c H locs 0 0 Q (F0 m 25 ls []))) (fun b0 => (∀ b, b0 = b → (∀ (H : Heap) (locs : List Loc) (ls : Array Slot), mR G b.2 H → va_S (mA G) s.heap H locs → lv_has ls 5 [(0, .ref (mo G)), (3, .int b.1)] → W p l e (mRm 36 911) s m args below meth c H locs 0 0 Q (F0 m 64 ls [])))) (fun q x hf hK hX => wbLX4_mayHave_25 S hf hK (fun b eb => (hX _ eb) b rfl)) q res h hE64
set_option maxHeartbeats 4000000 in
set_option maxRecDepth 100000 in
theorem met_X4_mayHave {l : Launch} {G : mG} {x1 : Int32} {σ : mS} {res : Int32 × mS} (hf : fX4_mayHave x1 σ = some res) : mMet l yX4_mayHave cX4_mayHave 5 (Option.some Jvm.ClassFile.FieldType.int) (mRm 36 911) G [.ref (mo G), .int x1] σ (some (.int res.1)) res.2 := by
  replace hf : (if (fX4_isPoint x1 σ) = (0 : Int32) then some ((-2 : Int32), σ) else (fX4_leastHalves (fX4_all σ) σ).bind (fun e1 => (lpw (LX4_mayHave_25 x1 e1.1) ((0 : Int32), (0 : Int32), e1.2)).bind (fun b5 => some (b5.1, b5.2)))) = some res := hf
  refine m_start (by decide) rfl (Nat.le_of_ble_eq_true rfl) ?_
  intro p e s m args below meth c S hR hS ls hl
  obtain ⟨hx, hb, hml, hown, hts⟩ := S.1.1
  have hl : lv_has ls 5 [(0, .ref (mo G)), (1, .int x1)] := hl
  refine lv_aload_n hx hb dX4_mayHave_0 rfl (lv_at hl 0 rfl) ?_
  refine lv_iload_n hx hb dX4_mayHave_1 rfl (lv_at hl 1 rfl) ?_
  refine m_call (As := [.int x1]) (rest := []) S hR hS (met_X4_isPoint rfl) wi_X4_isPoint rfl q2696 ⟨rfl, rfl⟩ ⟨Nat.le_of_ble_eq_true rfl, Nat.le_of_ble_eq_true rfl⟩ rfl hl.1 rfl (Nat.le_of_ble_eq_true rfl) dX4_mayHave_2 (fun H locs hR hS => ?_)
  refine lv_if_ne (tgt := 11) hx hb dX4_mayHave_5 (by decide) (fun c_5 => ?_) (fun c_5 => ?_)
  · replace hf := o_f hf c_5
    refine lv_aload_n hx hb dX4_mayHave_11 rfl (lv_at hl 0 rfl) ?_
    refine lv_aload_n hx hb dX4_mayHave_12 rfl (lv_at hl 0 rfl) ?_
    refine m_call (As := []) (rest := [.ref (mo G)]) S hR hS (met_X4_all rfl) wi_X4_all rfl q2738 ⟨rfl, rfl⟩ ⟨Nat.le_of_ble_eq_true rfl, Nat.le_of_ble_eq_true rfl⟩ rfl hl.1 rfl (Nat.le_of_ble_eq_true rfl) dX4_mayHave_13 (fun H locs hR hS => ?_)
    refine k_bind hf (fun e1 he1 hf => ?_)
    refine m_call (As := [.int (fX4_all σ)]) (rest := []) S hR hS (met_X4_leastHalves he1) wi_X4_leastHalves rfl q2798 ⟨rfl, rfl⟩ ⟨Nat.le_of_ble_eq_true rfl, Nat.le_of_ble_eq_true rfl⟩ rfl hl.1 rfl (Nat.le_of_ble_eq_true rfl) dX4_mayHave_16 (fun H locs hR hS => ?_)
    refine lv_istore_n (lv' := [(2, .int e1.1), (0, .ref (mo G)), (1, .int x1)]) hx hb dX4_mayHave_19 rfl hl (by decide) rfl (fun ls hl => ?_)
    refine lv_iconst (v := 0) hx hb dX4_mayHave_20 (by decide) ?_
    refine lv_istore_n (lv' := [(3, .int (0 : Int32)), (2, .int e1.1), (0, .ref (mo G)), (1, .int x1)]) hx hb dX4_mayHave_21 rfl hl (by decide) rfl (fun ls hl => ?_)
    refine lv_iconst (v := 0) hx hb dX4_mayHave_22 (by decide) ?_
    refine lv_istore (lv' := [(4, .int (0 : Int32)), (3, .int (0 : Int32)), (2, .int e1.1), (0, .ref (mo G)), (1, .int x1)]) hx hb dX4_mayHave_23 hl (by decide) rfl (fun ls hl => ?_)
    refine k_bind hf (fun b5 hb5 hf => ?_)
    refine wLX4_mayHave_25 S hb5 ?_ _ _ _ hR hS (lv_sub (l' := [(0, .ref (mo G)), (1, .int x1), (2, .int e1.1), (3, .int (0 : Int32)), (4, .int (0 : Int32))]) hl [3, 4, 2, 1, 0] rfl)
    · intro b eb; subst eb; intro H locs ls hR hS hl
      refine lv_iload_n hx hb dX4_mayHave_64 rfl (lv_at hl 1 rfl) ?_
      obtain rfl := Option.some.inj hf
      exact m_iret S hR hS rfl dX4_mayHave_65
  · replace hf := o_t hf c_5
    refine lv_bipush (v := -2) hx hb dX4_mayHave_8 (by decide) ?_
    obtain rfl := Option.some.inj hf
    exact m_iret S hR hS rfl dX4_mayHave_10

noncomputable def LX4_first_2 (y0 : Int32) (q : Int32) : Option ((Int32) ⊕ (Int32)) :=
  if (fX4_has y0 q) = (0 : Int32) then some (Sum.inl (q + (1 : Int32))) else some (Sum.inr q)
noncomputable def fX4_first (x0 : Int32) : Option Int32 :=
  (lpw (LX4_first_2 x0) (0 : Int32)).bind (fun b1 => some b1)
theorem wi_X4_first : wInfS yX4_first cX4_first 2 (Option.some Jvm.ClassFile.FieldType.int) 1 := ⟨q2835, q116, q2836, (by decide +kernel), (by decide +kernel), (by decide +kernel)⟩
set_option maxHeartbeats 4000000 in
set_option maxRecDepth 100000 in
theorem wbLX4_first_2 {l : Launch} {p : Program} {e : Env} {s : State} {m : MethodId} {args : Array Value} {below : List Frame} {meth : Method} {c : Code} {Q : State → Prop} {y0 : Int32} {q : Int32} {res : (Int32) ⊕ (Int32)} (S : wSt RX4 p m c cX4_first 2 s args meth (Option.some Jvm.ClassFile.FieldType.int)) (hf : LX4_first_2 y0 q = some res) (hK : ∀ q, res = Sum.inl q → (∀ (ls : Array Slot), lv_has ls 2 [(0, .int y0), (1, .int q)] → W p l e (mRm 1 21) s m args below meth c s.heap [] 0 0 Q (F0 m 2 ls []))) (hE16 : ∀ b, res = Sum.inr b → (∀ (ls : Array Slot), lv_has ls 2 [(1, .int b)] → W p l e (mRm 1 21) s m args below meth c s.heap [] 0 0 Q (F0 m 16 ls []))) : (∀ (ls : Array Slot), lv_has ls 2 [(0, .int y0), (1, .int q)] → W p l e (mRm 1 21) s m args below meth c s.heap [] 0 0 Q (F0 m 2 ls [])) := by
  replace hf : (if (fX4_has y0 q) = (0 : Int32) then some (Sum.inl (q + (1 : Int32))) else some (Sum.inr q)) = some res := hf
  obtain ⟨hx, hb, hml, hown, hts⟩ := S.1
  intro ls hl
  refine lv_iload_n hx hb dX4_first_2 rfl (lv_at hl 0 rfl) ?_
  refine lv_iload_n hx hb dX4_first_3 rfl (lv_at hl 1 rfl) ?_
  refine s_call (As := [.int y0, .int q]) (rest := []) S.1 (met_X4_has rfl) wi_X4_has q2750 ⟨rfl, rfl⟩ ⟨Nat.le_of_ble_eq_true rfl, Nat.le_of_ble_eq_true rfl⟩ rfl hl.1 rfl (Nat.le_of_ble_eq_true rfl) dX4_first_4 ⟨Nat.zero_le _, Nat.zero_le _⟩ ?_
  refine lv_if_ne (tgt := 16) hx hb dX4_first_7 (by decide) (fun c_7 => ?_) (fun c_7 => ?_)
  · replace hf := o_f hf c_7
    exact hE16 _ (Option.some.inj hf).symm _ (lv_sub (l' := [(1, .int q)]) hl [1] rfl)
  · replace hf := o_t hf c_7
    refine lv_iinc (lv' := [(1, .int (q + (1 : Int32))), (0, .int y0)]) hx hb dX4_first_10 hl (k := 1) rfl (m_inc (by decide)) (by decide) rfl (fun ls hl => ?_)
    refine lv_goto (tgt := 2) hx hb dX4_first_13 (by decide) ?_
    exact hK _ (Option.some.inj hf).symm _ (lv_sub (l' := [(0, .int y0), (1, .int (q + (1 : Int32)))]) hl [1, 0] rfl)
set_option maxHeartbeats 4000000 in
set_option maxRecDepth 100000 in
theorem wLX4_first_2 {l : Launch} {p : Program} {e : Env} {s : State} {m : MethodId} {args : Array Value} {below : List Frame} {meth : Method} {c : Code} {Q : State → Prop} {y0 : Int32} {q : Int32} {res : Int32} (S : wSt RX4 p m c cX4_first 2 s args meth (Option.some Jvm.ClassFile.FieldType.int)) (h : lpw (LX4_first_2 y0) q = some res) (hE16 : ∀ b, res = b → (∀ (ls : Array Slot), lv_has ls 2 [(1, .int b)] → W p l e (mRm 1 21) s m args below meth c s.heap [] 0 0 Q (F0 m 16 ls []))) : (∀ (ls : Array Slot), lv_has ls 2 [(0, .int y0), (1, .int q)] → W p l e (mRm 1 21) s m args below meth c s.heap [] 0 0 Q (F0 m 2 ls [])) :=
  lpw_go _ (fun q => (∀ (ls : Array Slot), lv_has ls 2 [(0, .int y0), (1, .int q)] → W p l e (mRm 1 21) s m args below meth c s.heap [] 0 0 Q (F0 m 2 ls []))) (fun b0 => (∀ b, b0 = b → (∀ (ls : Array Slot), lv_has ls 2 [(1, .int b)] → W p l e (mRm 1 21) s m args below meth c s.heap [] 0 0 Q (F0 m 16 ls [])))) (fun q x hf hK hX => wbLX4_first_2 S hf hK (fun b eb => (hX _ eb) b rfl)) q res h hE16
set_option maxHeartbeats 4000000 in
set_option maxRecDepth 100000 in
theorem met_X4_first {l : Launch} {x0 : Int32} {res : Int32} (hf : fX4_first x0 = some res) : sMet l yX4_first cX4_first 2 (Option.some Jvm.ClassFile.FieldType.int) (mRm 1 21) [.int x0] (some (.int res)) := by
  replace hf : ((lpw (LX4_first_2 x0) (0 : Int32)).bind (fun b1 => some b1)) = some res := hf
  refine s_start (by decide) (Nat.le_of_ble_eq_true rfl) ?_
  intro p e s m args below meth c S ls hl
  obtain ⟨hx, hb, hml, hown, hts⟩ := S.1
  have hl : lv_has ls 2 [(0, .int x0)] := hl
  refine lv_iconst (v := 0) hx hb dX4_first_0 (by decide) ?_
  refine lv_istore_n (lv' := [(1, .int (0 : Int32)), (0, .int x0)]) hx hb dX4_first_1 rfl hl (by decide) rfl (fun ls hl => ?_)
  refine k_bind hf (fun b1 hb1 hf => ?_)
  refine wLX4_first_2 S hb1 ?_ _ (lv_sub (l' := [(0, .int x0), (1, .int (0 : Int32))]) hl [1, 0] rfl)
  · intro b eb; subst eb; intro ls hl
    refine lv_iload_n hx hb dX4_first_16 rfl (lv_at hl 0 rfl) ?_
    obtain rfl := Option.some.inj hf
    exact s_iret S rfl dX4_first_17

noncomputable def LX4_pairsAll_14 (rec : Int32 → Int32 → mS → Option (Int32 × mS)) (y1 : Int32) (y2 : Int32) (y3 : Int32) (q : Int32 × mS) : Option ((Int32 × mS) ⊕ ((mS) ⊕ (mS))) :=
  if (q.2.1 0) ≤ q.1 then some (Sum.inr (Sum.inr q.2)) else (mald q.2 4 y3).bind (fun v2 => if (fX4_has (y2 &&& v2) q.1) = (0 : Int32) then some (Sum.inl (q.1 + (1 : Int32), q.2)) else (mast q.2 8 y3 q.1).bind (fun σ3 => (mast σ3 8 q.1 y3).bind (fun σ4 => (rec (y1 &&& (y1 - (1 : Int32))) (y2 &&& ((ish (1 : Int32) q.1) ^^^ (-1 : Int32))) σ4).bind (fun e5 => if e5.1 = (0 : Int32) then (mast e5.2 8 q.1 (-1 : Int32)).bind (fun σ6 => some (Sum.inl (q.1 + (1 : Int32), σ6))) else some (Sum.inr (Sum.inl e5.2))))))
noncomputable def BX4_pairsAll (rec : Int32 → Int32 → mS → Option (Int32 × mS)) (x1 : Int32) (x2 : Int32) (σ : mS) : Option (Int32 × mS) :=
  if x1 = (0 : Int32) then some ((1 : Int32), σ) else (fX4_first x1).bind (fun v1 => (lpw (LX4_pairsAll_14 rec x1 x2 v1) ((0 : Int32), σ)).bind ((fun e => Sum.elim (fun b8 => some ((1 : Int32), b8)) (fun b9 => (mast b9 8 v1 (-1 : Int32)).bind (fun σ10 => some ((0 : Int32), σ10))) e)))
noncomputable def fX4_pairsAll : Nat → Int32 → Int32 → mS → Option (Int32 × mS)
  | 0 => fun _ _ _ => none
  | d + 1 => BX4_pairsAll (fX4_pairsAll d)
theorem wi_X4_pairsAll : wInfV yX4_pairsAll cX4_pairsAll 5 (Option.some Jvm.ClassFile.FieldType.boolean) 2 := ⟨q2832, qs75, q116, q2833, (by decide +kernel), (by decide +kernel), (by decide +kernel)⟩
set_option maxHeartbeats 4000000 in
set_option maxRecDepth 100000 in
theorem wbLX4_pairsAll_14 {l : Launch} {G : mG} {p : Program} {e : Env} {s : State} {m : MethodId} {args : Array Value} {below : List Frame} {meth : Method} {c : Code} {d : Nat} {rec : Int32 → Int32 → mS → Option (Int32 × mS)} {Q : State → Prop} {y1 : Int32} {y2 : Int32} {y3 : Int32} {q : Int32 × mS} {res : (Int32 × mS) ⊕ ((mS) ⊕ (mS))} (S : mSt G p m c cX4_pairsAll 5 s args meth (Option.some Jvm.ClassFile.FieldType.boolean)) (hrec : ∀ {x1 : Int32} {x2 : Int32} {σ : mS} {res : Int32 × mS}, rec x1 x2 σ = some res → mMet l yX4_pairsAll cX4_pairsAll 5 (Option.some Jvm.ClassFile.FieldType.boolean) (mRm (d + 2) (24 * (d) + 42)) G [.ref (mo G), .int x1, .int x2] σ (some (.int res.1)) res.2) (hf : LX4_pairsAll_14 rec y1 y2 y3 q = some res) (hK : ∀ q, res = Sum.inl q → (∀ (H : Heap) (locs : List Loc) (ls : Array Slot), mR G q.2 H → va_S (mA G) s.heap H locs → lv_has ls 5 [(0, .ref (mo G)), (1, .int y1), (2, .int y2), (3, .int y3), (4, .int q.1)] → W p l e (mRm (d + 1 + 2) (24 * (d + 1) + 42)) s m args below meth c H locs 0 0 Q (F0 m 14 ls []))) (hE78 : ∀ b, res = Sum.inr (Sum.inl b) → (∀ (H : Heap) (locs : List Loc) (ls : Array Slot), mR G b H → va_S (mA G) s.heap H locs → lv_has ls 5 [(0, .ref (mo G))] → W p l e (mRm (d + 1 + 2) (24 * (d + 1) + 42)) s m args below meth c H locs 0 0 Q (F0 m 78 ls []))) (hE94 : ∀ b, res = Sum.inr (Sum.inr b) → (∀ (H : Heap) (locs : List Loc) (ls : Array Slot), mR G b H → va_S (mA G) s.heap H locs → lv_has ls 5 [(0, .ref (mo G)), (3, .int y3)] → W p l e (mRm (d + 1 + 2) (24 * (d + 1) + 42)) s m args below meth c H locs 0 0 Q (F0 m 94 ls []))) : (∀ (H : Heap) (locs : List Loc) (ls : Array Slot), mR G q.2 H → va_S (mA G) s.heap H locs → lv_has ls 5 [(0, .ref (mo G)), (1, .int y1), (2, .int y2), (3, .int y3), (4, .int q.1)] → W p l e (mRm (d + 1 + 2) (24 * (d + 1) + 42)) s m args below meth c H locs 0 0 Q (F0 m 14 ls [])) := by
  replace hf : (if (q.2.1 0) ≤ q.1 then some (Sum.inr (Sum.inr q.2)) else (mald q.2 4 y3).bind (fun v2 => if (fX4_has (y2 &&& v2) q.1) = (0 : Int32) then some (Sum.inl (q.1 + (1 : Int32), q.2)) else (mast q.2 8 y3 q.1).bind (fun σ3 => (mast σ3 8 q.1 y3).bind (fun σ4 => (rec (y1 &&& (y1 - (1 : Int32))) (y2 &&& ((ish (1 : Int32) q.1) ^^^ (-1 : Int32))) σ4).bind (fun e5 => if e5.1 = (0 : Int32) then (mast e5.2 8 q.1 (-1 : Int32)).bind (fun σ6 => some (Sum.inl (q.1 + (1 : Int32), σ6))) else some (Sum.inr (Sum.inl e5.2))))))) = some res := hf
  obtain ⟨hx, hb, hml, hown, hts⟩ := S.1.1
  intro H locs ls hR hS hl
  refine lv_iload hx hb dX4_pairsAll_14 (lv_at hl 4 rfl) ?_
  refine lv_aload_n hx hb dX4_pairsAll_16 rfl (lv_at hl 0 rfl) ?_
  refine m_geti (k := 0) S hR (by decide) (by decide) q2526 dX4_pairsAll_17 ?_
  refine lv_icmp_ge (tgt := 94) hx hb dX4_pairsAll_20 (by decide) (fun c_20 => ?_) (fun c_20 => ?_)
  · replace hf := o_t hf c_20
    exact hE94 _ (Option.some.inj hf).symm _ _ _ hR hS (lv_sub (l' := [(0, .ref (mo G)), (3, .int y3)]) hl [0, 3] rfl)
  · replace hf := o_f hf c_20
    refine lv_iload_n hx hb dX4_pairsAll_23 rfl (lv_at hl 2 rfl) ?_
    refine lv_aload_n hx hb dX4_pairsAll_24 rfl (lv_at hl 0 rfl) ?_
    refine m_geta (k := 4) S hR (by decide) (by decide) q2530 dX4_pairsAll_25 ?_
    refine lv_iload_n hx hb dX4_pairsAll_28 rfl (lv_at hl 3 rfl) ?_
    refine k_bind hf (fun v2 hv2 hf => ?_)
    refine m_iald S hR hv2 dX4_pairsAll_29 ?_
    refine lv_iand hx hb dX4_pairsAll_30 ?_
    refine lv_iload hx hb dX4_pairsAll_31 (lv_at hl 4 rfl) ?_
    refine s_call (As := [.int (y2 &&& v2), .int q.1]) (rest := []) S.1.1 (met_X4_has rfl) wi_X4_has q2750 ⟨rfl, rfl⟩ ⟨by simp only [mRm]; omega, by simp only [mRm]; omega⟩ rfl hl.1 rfl (Nat.le_of_ble_eq_true rfl) dX4_pairsAll_33 ⟨Nat.zero_le _, Nat.zero_le _⟩ ?_
    refine lv_if_ne (tgt := 42) hx hb dX4_pairsAll_36 (by decide) (fun c_36 => ?_) (fun c_36 => ?_)
    · replace hf := o_f hf c_36
      refine lv_aload_n hx hb dX4_pairsAll_42 rfl (lv_at hl 0 rfl) ?_
      refine m_geta (k := 8) S hR (by decide) (by decide) q2534 dX4_pairsAll_43 ?_
      refine lv_iload_n hx hb dX4_pairsAll_46 rfl (lv_at hl 3 rfl) ?_
      refine lv_iload hx hb dX4_pairsAll_47 (lv_at hl 4 rfl) ?_
      refine k_bind hf (fun σ3 hσ3 hf => ?_)
      refine m_iast S hR hS hσ3 dX4_pairsAll_49 (fun H locs hR hS => ?_)
      refine lv_aload_n hx hb dX4_pairsAll_50 rfl (lv_at hl 0 rfl) ?_
      refine m_geta (k := 8) S hR (by decide) (by decide) q2534 dX4_pairsAll_51 ?_
      refine lv_iload hx hb dX4_pairsAll_54 (lv_at hl 4 rfl) ?_
      refine lv_iload_n hx hb dX4_pairsAll_56 rfl (lv_at hl 3 rfl) ?_
      refine k_bind hf (fun σ4 hσ4 hf => ?_)
      refine m_iast S hR hS hσ4 dX4_pairsAll_57 (fun H locs hR hS => ?_)
      refine lv_aload_n hx hb dX4_pairsAll_58 rfl (lv_at hl 0 rfl) ?_
      refine lv_iload_n hx hb dX4_pairsAll_59 rfl (lv_at hl 1 rfl) ?_
      refine lv_iload_n hx hb dX4_pairsAll_60 rfl (lv_at hl 1 rfl) ?_
      refine lv_iconst (v := 1) hx hb dX4_pairsAll_61 (by decide) ?_
      refine lv_isub hx hb dX4_pairsAll_62 ?_
      refine lv_iand hx hb dX4_pairsAll_63 ?_
      refine lv_iload_n hx hb dX4_pairsAll_64 rfl (lv_at hl 2 rfl) ?_
      refine lv_iconst (v := 1) hx hb dX4_pairsAll_65 (by decide) ?_
      refine lv_iload hx hb dX4_pairsAll_66 (lv_at hl 4 rfl) ?_
      refine lv_ishl hx hb dX4_pairsAll_68 ?_
      refine lv_iconst (v := -1) hx hb dX4_pairsAll_69 (by decide) ?_
      refine lv_ixor hx hb dX4_pairsAll_70 ?_
      refine lv_iand hx hb dX4_pairsAll_71 ?_
      refine k_bind hf (fun e5 he5 hf => ?_)
      refine m_call (As := [.int (y1 &&& (y1 - (1 : Int32))), .int (y2 &&& ((ish (1 : Int32) q.1) ^^^ (-1 : Int32)))]) (rest := []) S hR hS (hrec he5) wi_X4_pairsAll rfl q2830 ⟨rfl, rfl⟩ ⟨by simp only [mRm]; omega, by simp only [mRm]; omega⟩ rfl hl.1 rfl (Nat.le_of_ble_eq_true rfl) dX4_pairsAll_72 (fun H locs hR hS => ?_)
      refine lv_if_eq (tgt := 80) hx hb dX4_pairsAll_75 (by decide) (fun c_75 => ?_) (fun c_75 => ?_)
      · replace hf := o_t hf c_75
        refine lv_aload_n hx hb dX4_pairsAll_80 rfl (lv_at hl 0 rfl) ?_
        refine m_geta (k := 8) S hR (by decide) (by decide) q2534 dX4_pairsAll_81 ?_
        refine lv_iload hx hb dX4_pairsAll_84 (lv_at hl 4 rfl) ?_
        refine lv_iconst (v := -1) hx hb dX4_pairsAll_86 (by decide) ?_
        refine k_bind hf (fun σ6 hσ6 hf => ?_)
        refine m_iast S hR hS hσ6 dX4_pairsAll_87 (fun H locs hR hS => ?_)
        refine lv_iinc (lv' := [(4, .int (q.1 + (1 : Int32))), (0, .ref (mo G)), (1, .int y1), (2, .int y2), (3, .int y3)]) hx hb dX4_pairsAll_88 hl (k := 4) rfl (m_inc (by decide)) (by decide) rfl (fun ls hl => ?_)
        refine lv_goto (tgt := 14) hx hb dX4_pairsAll_91 (by decide) ?_
        exact hK _ (Option.some.inj hf).symm _ _ _ hR hS (lv_sub (l' := [(0, .ref (mo G)), (1, .int y1), (2, .int y2), (3, .int y3), (4, .int (q.1 + (1 : Int32)))]) hl [1, 2, 3, 4, 0] rfl)
      · replace hf := o_f hf c_75
        exact hE78 _ (Option.some.inj hf).symm _ _ _ hR hS (lv_sub (l' := [(0, .ref (mo G))]) hl [0] rfl)
    · replace hf := o_t hf c_36
      refine lv_goto (tgt := 88) hx hb dX4_pairsAll_39 (by decide) ?_
      refine lv_iinc (lv' := [(4, .int (q.1 + (1 : Int32))), (0, .ref (mo G)), (1, .int y1), (2, .int y2), (3, .int y3)]) hx hb dX4_pairsAll_88 hl (k := 4) rfl (m_inc (by decide)) (by decide) rfl (fun ls hl => ?_)
      refine lv_goto (tgt := 14) hx hb dX4_pairsAll_91 (by decide) ?_
      exact hK _ (Option.some.inj hf).symm _ _ _ hR hS (lv_sub (l' := [(0, .ref (mo G)), (1, .int y1), (2, .int y2), (3, .int y3), (4, .int (q.1 + (1 : Int32)))]) hl [1, 2, 3, 4, 0] rfl)
set_option maxHeartbeats 4000000 in
set_option maxRecDepth 100000 in
theorem wLX4_pairsAll_14 {l : Launch} {G : mG} {p : Program} {e : Env} {s : State} {m : MethodId} {args : Array Value} {below : List Frame} {meth : Method} {c : Code} {d : Nat} {rec : Int32 → Int32 → mS → Option (Int32 × mS)} {Q : State → Prop} {y1 : Int32} {y2 : Int32} {y3 : Int32} {q : Int32 × mS} {res : (mS) ⊕ (mS)} (S : mSt G p m c cX4_pairsAll 5 s args meth (Option.some Jvm.ClassFile.FieldType.boolean)) (hrec : ∀ {x1 : Int32} {x2 : Int32} {σ : mS} {res : Int32 × mS}, rec x1 x2 σ = some res → mMet l yX4_pairsAll cX4_pairsAll 5 (Option.some Jvm.ClassFile.FieldType.boolean) (mRm (d + 2) (24 * (d) + 42)) G [.ref (mo G), .int x1, .int x2] σ (some (.int res.1)) res.2) (h : lpw (LX4_pairsAll_14 rec y1 y2 y3) q = some res) (hE78 : ∀ b, res = (Sum.inl b) → (∀ (H : Heap) (locs : List Loc) (ls : Array Slot), mR G b H → va_S (mA G) s.heap H locs → lv_has ls 5 [(0, .ref (mo G))] → W p l e (mRm (d + 1 + 2) (24 * (d + 1) + 42)) s m args below meth c H locs 0 0 Q (F0 m 78 ls []))) (hE94 : ∀ b, res = (Sum.inr b) → (∀ (H : Heap) (locs : List Loc) (ls : Array Slot), mR G b H → va_S (mA G) s.heap H locs → lv_has ls 5 [(0, .ref (mo G)), (3, .int y3)] → W p l e (mRm (d + 1 + 2) (24 * (d + 1) + 42)) s m args below meth c H locs 0 0 Q (F0 m 94 ls []))) : (∀ (H : Heap) (locs : List Loc) (ls : Array Slot), mR G q.2 H → va_S (mA G) s.heap H locs → lv_has ls 5 [(0, .ref (mo G)), (1, .int y1), (2, .int y2), (3, .int y3), (4, .int q.1)] → W p l e (mRm (d + 1 + 2) (24 * (d + 1) + 42)) s m args below meth c H locs 0 0 Q (F0 m 14 ls [])) :=
  lpw_go _ (fun q => (∀ (H : Heap) (locs : List Loc) (ls : Array Slot), mR G q.2 H → va_S (mA G) s.heap H locs → lv_has ls 5 [(0, .ref (mo G)), (1, .int y1), (2, .int y2), (3, .int y3), (4, .int q.1)] → W p l e (mRm (d + 1 + 2) (24 * (d + 1) + 42)) s m args below meth c H locs 0 0 Q (F0 m 14 ls []))) (fun b0 => (∀ b, b0 = (Sum.inl b) → (∀ (H : Heap) (locs : List Loc) (ls : Array Slot), mR G b H → va_S (mA G) s.heap H locs → lv_has ls 5 [(0, .ref (mo G))] → W p l e (mRm (d + 1 + 2) (24 * (d + 1) + 42)) s m args below meth c H locs 0 0 Q (F0 m 78 ls []))) ∧ (∀ b, b0 = (Sum.inr b) → (∀ (H : Heap) (locs : List Loc) (ls : Array Slot), mR G b H → va_S (mA G) s.heap H locs → lv_has ls 5 [(0, .ref (mo G)), (3, .int y3)] → W p l e (mRm (d + 1 + 2) (24 * (d + 1) + 42)) s m args below meth c H locs 0 0 Q (F0 m 94 ls [])))) (fun q x hf hK hX => wbLX4_pairsAll_14 S hrec hf hK (fun b eb => (hX _ eb).1 b rfl) (fun b eb => (hX _ eb).2 b rfl)) q res h ⟨hE78, hE94⟩
set_option maxHeartbeats 4000000 in
set_option maxRecDepth 100000 in
theorem wBX4_pairsAll {d : Nat} {rec : Int32 → Int32 → mS → Option (Int32 × mS)} {l : Launch} {G : mG} {x1 : Int32} {x2 : Int32} {σ : mS} {res : Int32 × mS} (hrec : ∀ {x1 : Int32} {x2 : Int32} {σ : mS} {res : Int32 × mS}, rec x1 x2 σ = some res → mMet l yX4_pairsAll cX4_pairsAll 5 (Option.some Jvm.ClassFile.FieldType.boolean) (mRm (d + 2) (24 * (d) + 42)) G [.ref (mo G), .int x1, .int x2] σ (some (.int res.1)) res.2) (hf : BX4_pairsAll rec x1 x2 σ = some res) : mMet l yX4_pairsAll cX4_pairsAll 5 (Option.some Jvm.ClassFile.FieldType.boolean) (mRm (d + 1 + 2) (24 * (d + 1) + 42)) G [.ref (mo G), .int x1, .int x2] σ (some (.int res.1)) res.2 := by
  replace hf : (if x1 = (0 : Int32) then some ((1 : Int32), σ) else (fX4_first x1).bind (fun v1 => (lpw (LX4_pairsAll_14 rec x1 x2 v1) ((0 : Int32), σ)).bind ((fun e => Sum.elim (fun b8 => some ((1 : Int32), b8)) (fun b9 => (mast b9 8 v1 (-1 : Int32)).bind (fun σ10 => some ((0 : Int32), σ10))) e)))) = some res := hf
  refine m_start (by decide) rfl (Nat.le_of_ble_eq_true rfl) ?_
  intro p e s m args below meth c S hR hS ls hl
  obtain ⟨hx, hb, hml, hown, hts⟩ := S.1.1
  have hl : lv_has ls 5 [(0, .ref (mo G)), (1, .int x1), (2, .int x2)] := hl
  refine lv_iload_n hx hb dX4_pairsAll_0 rfl (lv_at hl 1 rfl) ?_
  refine lv_if_ne (tgt := 6) hx hb dX4_pairsAll_1 (by decide) (fun c_1 => ?_) (fun c_1 => ?_)
  · replace hf := o_f hf c_1
    refine lv_iload_n hx hb dX4_pairsAll_6 rfl (lv_at hl 1 rfl) ?_
    refine k_bind hf (fun v1 hv1 hf => ?_)
    refine s_call (As := [.int x1]) (rest := []) S.1.1 (met_X4_first hv1) wi_X4_first q2834 ⟨rfl, rfl⟩ ⟨by simp only [mRm]; omega, by simp only [mRm]; omega⟩ rfl hl.1 rfl (Nat.le_of_ble_eq_true rfl) dX4_pairsAll_7 ⟨Nat.zero_le _, Nat.zero_le _⟩ ?_
    refine lv_istore_n (lv' := [(3, .int v1), (0, .ref (mo G)), (1, .int x1), (2, .int x2)]) hx hb dX4_pairsAll_10 rfl hl (by decide) rfl (fun ls hl => ?_)
    refine lv_iconst (v := 0) hx hb dX4_pairsAll_11 (by decide) ?_
    refine lv_istore (lv' := [(4, .int (0 : Int32)), (3, .int v1), (0, .ref (mo G)), (1, .int x1), (2, .int x2)]) hx hb dX4_pairsAll_12 hl (by decide) rfl (fun ls hl => ?_)
    refine k_bind hf (fun b7 hb7 hf => ?_)
    refine wLX4_pairsAll_14 S hrec hb7 ?_ ?_ _ _ _ hR hS (lv_sub (l' := [(0, .ref (mo G)), (1, .int x1), (2, .int x2), (3, .int v1), (4, .int (0 : Int32))]) hl [2, 3, 4, 1, 0] rfl)
    · intro b8 eb; subst eb; intro H locs ls hR hS hl
      replace hf := o_l hf
      refine lv_iconst (v := 1) hx hb dX4_pairsAll_78 (by decide) ?_
      obtain rfl := Option.some.inj hf
      exact m_iret S hR hS rfl dX4_pairsAll_79
    · intro b9 eb; subst eb; intro H locs ls hR hS hl
      replace hf := o_r hf
      refine lv_aload_n hx hb dX4_pairsAll_94 rfl (lv_at hl 0 rfl) ?_
      refine m_geta (k := 8) S hR (by decide) (by decide) q2534 dX4_pairsAll_95 ?_
      refine lv_iload_n hx hb dX4_pairsAll_98 rfl (lv_at hl 1 rfl) ?_
      refine lv_iconst (v := -1) hx hb dX4_pairsAll_99 (by decide) ?_
      refine k_bind hf (fun σ10 hσ10 hf => ?_)
      refine m_iast S hR hS hσ10 dX4_pairsAll_100 (fun H locs hR hS => ?_)
      refine lv_iconst (v := 0) hx hb dX4_pairsAll_101 (by decide) ?_
      obtain rfl := Option.some.inj hf
      exact m_iret S hR hS rfl dX4_pairsAll_102
  · replace hf := o_t hf c_1
    refine lv_iconst (v := 1) hx hb dX4_pairsAll_4 (by decide) ?_
    obtain rfl := Option.some.inj hf
    exact m_iret S hR hS rfl dX4_pairsAll_5
set_option maxHeartbeats 4000000 in
set_option maxRecDepth 100000 in
theorem met_X4_pairsAll {l : Launch} {G : mG} : ∀ {d : Nat} {x1 : Int32} {x2 : Int32} {σ : mS} {res : Int32 × mS}, fX4_pairsAll d x1 x2 σ = some res → mMet l yX4_pairsAll cX4_pairsAll 5 (Option.some Jvm.ClassFile.FieldType.boolean) (mRm (d + 2) (24 * (d) + 42)) G [.ref (mo G), .int x1, .int x2] σ (some (.int res.1)) res.2 := by
  intro d
  induction d with
  | zero => intro  x1 x2 σ res hf; cases hf
  | succ d ih => intro  x1 x2 σ res hf; exact wBX4_pairsAll (fun h => ih h) hf

noncomputable def LX4_mate_22 (y1 : Int32) (q : Int32 × mS) : Option ((Int32 × mS) ⊕ (mS)) :=
  if (12 : Int32) ≤ q.1 then some (Sum.inr q.2) else (mast q.2 8 q.1 (-1 : Int32)).bind (fun σ2 => some (Sum.inl (q.1 + (1 : Int32), σ2)))
noncomputable def fX4_mate (x1 : Int32) (σ : mS) : Option (Int32 × mS) :=
  if (fX4_isPoint x1 σ) = (0 : Int32) then some ((-2 : Int32), σ) else (fX4_laysHalves (fX4_all σ) σ).bind (fun e1 => (lpw (LX4_mate_22 x1) ((0 : Int32), e1.2)).bind (fun b3 => (fX4_halvesWith (2 : Int32) (fX4_all b3) b3).bind (fun v4 => (fX4_halvesWith (0 : Int32) (fX4_all b3) b3).bind (fun v5 => (fX4_pairsAll 16 v4 v5 b3).bind (fun e6 => (mald e6.2 8 x1).bind (fun v7 => some (v7, e6.2)))))))
theorem wi_X4_mate : wInfV yX4_mate cX4_mate 4 (Option.some Jvm.ClassFile.FieldType.int) 1 := ⟨q2827, q2828, q116, q2829, (by decide +kernel), (by decide +kernel), (by decide +kernel)⟩
set_option maxHeartbeats 4000000 in
set_option maxRecDepth 100000 in
theorem wbLX4_mate_22 {l : Launch} {G : mG} {p : Program} {e : Env} {s : State} {m : MethodId} {args : Array Value} {below : List Frame} {meth : Method} {c : Code} {Q : State → Prop} {y1 : Int32} {q : Int32 × mS} {res : (Int32 × mS) ⊕ (mS)} (S : mSt G p m c cX4_mate 4 s args meth (Option.some Jvm.ClassFile.FieldType.int)) (hf : LX4_mate_22 y1 q = some res) (hK : ∀ q, res = Sum.inl q → (∀ (H : Heap) (locs : List Loc) (ls : Array Slot), mR G q.2 H → va_S (mA G) s.heap H locs → lv_has ls 4 [(0, .ref (mo G)), (1, .int y1), (3, .int q.1)] → W p l e (mRm 37 934) s m args below meth c H locs 0 0 Q (F0 m 22 ls []))) (hE41 : ∀ b, res = Sum.inr b → (∀ (H : Heap) (locs : List Loc) (ls : Array Slot), mR G b H → va_S (mA G) s.heap H locs → lv_has ls 4 [(0, .ref (mo G)), (1, .int y1)] → W p l e (mRm 37 934) s m args below meth c H locs 0 0 Q (F0 m 41 ls []))) : (∀ (H : Heap) (locs : List Loc) (ls : Array Slot), mR G q.2 H → va_S (mA G) s.heap H locs → lv_has ls 4 [(0, .ref (mo G)), (1, .int y1), (3, .int q.1)] → W p l e (mRm 37 934) s m args below meth c H locs 0 0 Q (F0 m 22 ls [])) := by
  replace hf : (if (12 : Int32) ≤ q.1 then some (Sum.inr q.2) else (mast q.2 8 q.1 (-1 : Int32)).bind (fun σ2 => some (Sum.inl (q.1 + (1 : Int32), σ2)))) = some res := hf
  obtain ⟨hx, hb, hml, hown, hts⟩ := S.1.1
  intro H locs ls hR hS hl
  refine lv_iload_n hx hb dX4_mate_22 rfl (lv_at hl 2 rfl) ?_
  refine lv_bipush (v := 12) hx hb dX4_mate_23 (by decide) ?_
  refine lv_icmp_ge (tgt := 41) hx hb dX4_mate_25 (by decide) (fun c_25 => ?_) (fun c_25 => ?_)
  · replace hf := o_t hf c_25
    exact hE41 _ (Option.some.inj hf).symm _ _ _ hR hS (lv_sub (l' := [(0, .ref (mo G)), (1, .int y1)]) hl [0, 1] rfl)
  · replace hf := o_f hf c_25
    refine lv_aload_n hx hb dX4_mate_28 rfl (lv_at hl 0 rfl) ?_
    refine m_geta (k := 8) S hR (by decide) (by decide) q2534 dX4_mate_29 ?_
    refine lv_iload_n hx hb dX4_mate_32 rfl (lv_at hl 2 rfl) ?_
    refine lv_iconst (v := -1) hx hb dX4_mate_33 (by decide) ?_
    refine k_bind hf (fun σ2 hσ2 hf => ?_)
    refine m_iast S hR hS hσ2 dX4_mate_34 (fun H locs hR hS => ?_)
    refine lv_iinc (lv' := [(3, .int (q.1 + (1 : Int32))), (0, .ref (mo G)), (1, .int y1)]) hx hb dX4_mate_35 hl (k := 2) rfl (m_inc (by decide)) (by decide) rfl (fun ls hl => ?_)
    refine lv_goto (tgt := 22) hx hb dX4_mate_38 (by decide) ?_
    exact hK _ (Option.some.inj hf).symm _ _ _ hR hS (lv_sub (l' := [(0, .ref (mo G)), (1, .int y1), (3, .int (q.1 + (1 : Int32)))]) hl [1, 2, 0] rfl)
set_option maxHeartbeats 4000000 in
set_option maxRecDepth 100000 in
theorem wLX4_mate_22 {l : Launch} {G : mG} {p : Program} {e : Env} {s : State} {m : MethodId} {args : Array Value} {below : List Frame} {meth : Method} {c : Code} {Q : State → Prop} {y1 : Int32} {q : Int32 × mS} {res : mS} (S : mSt G p m c cX4_mate 4 s args meth (Option.some Jvm.ClassFile.FieldType.int)) (h : lpw (LX4_mate_22 y1) q = some res) (hE41 : ∀ b, res = b → (∀ (H : Heap) (locs : List Loc) (ls : Array Slot), mR G b H → va_S (mA G) s.heap H locs → lv_has ls 4 [(0, .ref (mo G)), (1, .int y1)] → W p l e (mRm 37 934) s m args below meth c H locs 0 0 Q (F0 m 41 ls []))) : (∀ (H : Heap) (locs : List Loc) (ls : Array Slot), mR G q.2 H → va_S (mA G) s.heap H locs → lv_has ls 4 [(0, .ref (mo G)), (1, .int y1), (3, .int q.1)] → W p l e (mRm 37 934) s m args below meth c H locs 0 0 Q (F0 m 22 ls [])) :=
  lpw_go _ (fun q => (∀ (H : Heap) (locs : List Loc) (ls : Array Slot), mR G q.2 H → va_S (mA G) s.heap H locs → lv_has ls 4 [(0, .ref (mo G)), (1, .int y1), (3, .int q.1)] → W p l e (mRm 37 934) s m args below meth c H locs 0 0 Q (F0 m 22 ls []))) (fun b0 => (∀ b, b0 = b → (∀ (H : Heap) (locs : List Loc) (ls : Array Slot), mR G b H → va_S (mA G) s.heap H locs → lv_has ls 4 [(0, .ref (mo G)), (1, .int y1)] → W p l e (mRm 37 934) s m args below meth c H locs 0 0 Q (F0 m 41 ls [])))) (fun q x hf hK hX => wbLX4_mate_22 S hf hK (fun b eb => (hX _ eb) b rfl)) q res h hE41
set_option maxHeartbeats 4000000 in
set_option maxRecDepth 100000 in
theorem met_X4_mate {l : Launch} {G : mG} {x1 : Int32} {σ : mS} {res : Int32 × mS} (hf : fX4_mate x1 σ = some res) : mMet l yX4_mate cX4_mate 4 (Option.some Jvm.ClassFile.FieldType.int) (mRm 37 934) G [.ref (mo G), .int x1] σ (some (.int res.1)) res.2 := by
  replace hf : (if (fX4_isPoint x1 σ) = (0 : Int32) then some ((-2 : Int32), σ) else (fX4_laysHalves (fX4_all σ) σ).bind (fun e1 => (lpw (LX4_mate_22 x1) ((0 : Int32), e1.2)).bind (fun b3 => (fX4_halvesWith (2 : Int32) (fX4_all b3) b3).bind (fun v4 => (fX4_halvesWith (0 : Int32) (fX4_all b3) b3).bind (fun v5 => (fX4_pairsAll 16 v4 v5 b3).bind (fun e6 => (mald e6.2 8 x1).bind (fun v7 => some (v7, e6.2)))))))) = some res := hf
  refine m_start (by decide) rfl (Nat.le_of_ble_eq_true rfl) ?_
  intro p e s m args below meth c S hR hS ls hl
  obtain ⟨hx, hb, hml, hown, hts⟩ := S.1.1
  have hl : lv_has ls 4 [(0, .ref (mo G)), (1, .int x1)] := hl
  refine lv_aload_n hx hb dX4_mate_0 rfl (lv_at hl 0 rfl) ?_
  refine lv_iload_n hx hb dX4_mate_1 rfl (lv_at hl 1 rfl) ?_
  refine m_call (As := [.int x1]) (rest := []) S hR hS (met_X4_isPoint rfl) wi_X4_isPoint rfl q2696 ⟨rfl, rfl⟩ ⟨Nat.le_of_ble_eq_true rfl, Nat.le_of_ble_eq_true rfl⟩ rfl hl.1 rfl (Nat.le_of_ble_eq_true rfl) dX4_mate_2 (fun H locs hR hS => ?_)
  refine lv_if_ne (tgt := 11) hx hb dX4_mate_5 (by decide) (fun c_5 => ?_) (fun c_5 => ?_)
  · replace hf := o_f hf c_5
    refine lv_aload_n hx hb dX4_mate_11 rfl (lv_at hl 0 rfl) ?_
    refine lv_aload_n hx hb dX4_mate_12 rfl (lv_at hl 0 rfl) ?_
    refine m_call (As := []) (rest := [.ref (mo G)]) S hR hS (met_X4_all rfl) wi_X4_all rfl q2738 ⟨rfl, rfl⟩ ⟨Nat.le_of_ble_eq_true rfl, Nat.le_of_ble_eq_true rfl⟩ rfl hl.1 rfl (Nat.le_of_ble_eq_true rfl) dX4_mate_13 (fun H locs hR hS => ?_)
    refine k_bind hf (fun e1 he1 hf => ?_)
    refine m_call (As := [.int (fX4_all σ)]) (rest := []) S hR hS (met_X4_laysHalves he1) wi_X4_laysHalves rfl q2794 ⟨rfl, rfl⟩ ⟨Nat.le_of_ble_eq_true rfl, Nat.le_of_ble_eq_true rfl⟩ rfl hl.1 rfl (Nat.le_of_ble_eq_true rfl) dX4_mate_16 (fun H locs hR hS => ?_)
    refine lv_istore_n (lv' := [(2, .int e1.1), (0, .ref (mo G)), (1, .int x1)]) hx hb dX4_mate_19 rfl hl (by decide) rfl (fun ls hl => ?_)
    refine lv_iconst (v := 0) hx hb dX4_mate_20 (by decide) ?_
    refine lv_istore_n (lv' := [(3, .int (0 : Int32)), (2, .int e1.1), (0, .ref (mo G)), (1, .int x1)]) hx hb dX4_mate_21 rfl hl (by decide) rfl (fun ls hl => ?_)
    refine k_bind hf (fun b3 hb3 hf => ?_)
    refine wLX4_mate_22 S hb3 ?_ _ _ _ hR hS (lv_sub (l' := [(0, .ref (mo G)), (1, .int x1), (3, .int (0 : Int32))]) hl [2, 3, 0] rfl)
    · intro b eb; subst eb; intro H locs ls hR hS hl
      refine lv_aload_n hx hb dX4_mate_41 rfl (lv_at hl 0 rfl) ?_
      refine lv_aload_n hx hb dX4_mate_42 rfl (lv_at hl 0 rfl) ?_
      refine lv_iconst (v := 2) hx hb dX4_mate_43 (by decide) ?_
      refine lv_aload_n hx hb dX4_mate_44 rfl (lv_at hl 0 rfl) ?_
      refine m_call (As := []) (rest := [.int (2 : Int32), .ref (mo G), .ref (mo G)]) S hR hS (met_X4_all rfl) wi_X4_all rfl q2738 ⟨rfl, rfl⟩ ⟨Nat.le_of_ble_eq_true rfl, Nat.le_of_ble_eq_true rfl⟩ rfl hl.1 rfl (Nat.le_of_ble_eq_true rfl) dX4_mate_45 (fun H locs hR hS => ?_)
      refine k_bind hf (fun v4 hv4 hf => ?_)
      refine m_call (As := [.int (2 : Int32), .int (fX4_all b3)]) (rest := [.ref (mo G)]) S hR hS (met_X4_halvesWith hv4) wi_X4_halvesWith rfl q2814 ⟨rfl, rfl⟩ ⟨Nat.le_of_ble_eq_true rfl, Nat.le_of_ble_eq_true rfl⟩ rfl hl.1 rfl (Nat.le_of_ble_eq_true rfl) dX4_mate_48 (fun H locs hR hS => ?_)
      refine lv_aload_n hx hb dX4_mate_51 rfl (lv_at hl 0 rfl) ?_
      refine lv_iconst (v := 0) hx hb dX4_mate_52 (by decide) ?_
      refine lv_aload_n hx hb dX4_mate_53 rfl (lv_at hl 0 rfl) ?_
      refine m_call (As := []) (rest := [.int (0 : Int32), .ref (mo G), .int v4, .ref (mo G)]) S hR hS (met_X4_all rfl) wi_X4_all rfl q2738 ⟨rfl, rfl⟩ ⟨Nat.le_of_ble_eq_true rfl, Nat.le_of_ble_eq_true rfl⟩ rfl hl.1 rfl (Nat.le_of_ble_eq_true rfl) dX4_mate_54 (fun H locs hR hS => ?_)
      refine k_bind hf (fun v5 hv5 hf => ?_)
      refine m_call (As := [.int (0 : Int32), .int (fX4_all b3)]) (rest := [.int v4, .ref (mo G)]) S hR hS (met_X4_halvesWith hv5) wi_X4_halvesWith rfl q2814 ⟨rfl, rfl⟩ ⟨Nat.le_of_ble_eq_true rfl, Nat.le_of_ble_eq_true rfl⟩ rfl hl.1 rfl (Nat.le_of_ble_eq_true rfl) dX4_mate_57 (fun H locs hR hS => ?_)
      refine k_bind hf (fun e6 he6 hf => ?_)
      refine m_call (As := [.int v4, .int v5]) (rest := []) S hR hS (met_X4_pairsAll he6) wi_X4_pairsAll rfl q2830 ⟨rfl, rfl⟩ ⟨Nat.le_of_ble_eq_true rfl, Nat.le_of_ble_eq_true rfl⟩ rfl hl.1 rfl (Nat.le_of_ble_eq_true rfl) dX4_mate_60 (fun H locs hR hS => ?_)
      refine lv_istore_n (lv' := [(3, .int e6.1), (0, .ref (mo G)), (1, .int x1)]) hx hb dX4_mate_63 rfl hl (by decide) rfl (fun ls hl => ?_)
      refine lv_aload_n hx hb dX4_mate_64 rfl (lv_at hl 1 rfl) ?_
      refine m_geta (k := 8) S hR (by decide) (by decide) q2534 dX4_mate_65 ?_
      refine lv_iload_n hx hb dX4_mate_68 rfl (lv_at hl 2 rfl) ?_
      refine k_bind hf (fun v7 hv7 hf => ?_)
      refine m_iald S hR hv7 dX4_mate_69 ?_
      obtain rfl := Option.some.inj hf
      exact m_iret S hR hS rfl dX4_mate_70
  · replace hf := o_t hf c_5
    refine lv_bipush (v := -2) hx hb dX4_mate_8 (by decide) ?_
    obtain rfl := Option.some.inj hf
    exact m_iret S hR hS rfl dX4_mate_10
