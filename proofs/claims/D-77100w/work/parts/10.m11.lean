/-! the reference, walked: pays paid feed wipe isFrom isWord kindOf faultOf -/
noncomputable def LX4_pays_24 (y1 : Int32) (y2 : Int32) (σ : mS) (q : Int32 × Int32) : Option ((Int32 × Int32) ⊕ (Int32)) :=
  if (σ.1 0) ≤ q.2 then some (Sum.inr q.1) else (mald σ 23 q.2).bind (fun v2 => if v2 = (0 : Int32) then (some (q.1 ||| (ish (1 : Int32) q.2))).bind (fun v4 => some (Sum.inl (v4, q.2 + (1 : Int32)))) else (some (q.1 ||| (0 : Int32))).bind (fun v3 => some (Sum.inl (v3, q.2 + (1 : Int32)))))
noncomputable def fX4_pays (x1 : Int32) (σ : mS) : Option (Int32 × mS) :=
  if (fX4_in x1 (0 : Int32) (2 : Int32)) = (0 : Int32) then some ((-2 : Int32), σ) else (fX4_payments (-1 : Int32) (-1 : Int32) σ).bind (fun e1 => (lpw (LX4_pays_24 x1 e1.1 e1.2) ((0 : Int32), (0 : Int32))).bind (fun b5 => if x1 = (0 : Int32) then some (e1.1, e1.2) else if x1 = (1 : Int32) then some (b5, e1.2) else (fX4_costs b5 e1.2).bind (fun v6 => some (v6, e1.2))))
theorem wi_X4_pays : wInfV yX4_pays cX4_pays 5 (Option.some Jvm.ClassFile.FieldType.int) 1 := ⟨q2949, q2950, q116, q2951, (by decide +kernel), (by decide +kernel), (by decide +kernel)⟩
set_option maxHeartbeats 4000000 in
set_option maxRecDepth 100000 in
theorem wbLX4_pays_24 {l : Launch} {G : mG} {p : Program} {e : Env} {s : State} {m : MethodId} {args : Array Value} {below : List Frame} {meth : Method} {c : Code} {Q : State → Prop} {y1 : Int32} {y2 : Int32} {σ : mS} {q : Int32 × Int32} {res : (Int32 × Int32) ⊕ (Int32)} (S : mSt G p m c cX4_pays 5 s args meth (Option.some Jvm.ClassFile.FieldType.int)) (hf : LX4_pays_24 y1 y2 σ q = some res) (hK : ∀ q, res = Sum.inl q → (∀ (H : Heap) (locs : List Loc) (ls : Array Slot), mR G σ H → va_S (mA G) s.heap H locs → lv_has ls 5 [(0, .ref (mo G)), (1, .int y1), (2, .int y2), (3, .int q.1), (4, .int q.2)] → W p l e (mRm 3 72) s m args below meth c H locs 0 0 Q (F0 m 24 ls []))) (hE60 : ∀ b, res = Sum.inr b → (∀ (H : Heap) (locs : List Loc) (ls : Array Slot), mR G σ H → va_S (mA G) s.heap H locs → lv_has ls 5 [(0, .ref (mo G)), (1, .int y1), (2, .int y2), (3, .int b)] → W p l e (mRm 3 72) s m args below meth c H locs 0 0 Q (F0 m 60 ls []))) : (∀ (H : Heap) (locs : List Loc) (ls : Array Slot), mR G σ H → va_S (mA G) s.heap H locs → lv_has ls 5 [(0, .ref (mo G)), (1, .int y1), (2, .int y2), (3, .int q.1), (4, .int q.2)] → W p l e (mRm 3 72) s m args below meth c H locs 0 0 Q (F0 m 24 ls [])) := by
  replace hf : (if (σ.1 0) ≤ q.2 then some (Sum.inr q.1) else (mald σ 23 q.2).bind (fun v2 => if v2 = (0 : Int32) then (some (q.1 ||| (ish (1 : Int32) q.2))).bind (fun v4 => some (Sum.inl (v4, q.2 + (1 : Int32)))) else (some (q.1 ||| (0 : Int32))).bind (fun v3 => some (Sum.inl (v3, q.2 + (1 : Int32)))))) = some res := hf
  obtain ⟨hx, hb, hml, hown, hts⟩ := S.1.1
  intro H locs ls hR hS hl
  refine lv_iload hx hb dX4_pays_24 (lv_at hl 4 rfl) ?_
  refine lv_aload_n hx hb dX4_pays_26 rfl (lv_at hl 0 rfl) ?_
  refine m_geti (k := 0) S hR (by decide) (by decide) q2526 dX4_pays_27 ?_
  refine lv_icmp_ge (tgt := 60) hx hb dX4_pays_30 (by decide) (fun c_30 => ?_) (fun c_30 => ?_)
  · replace hf := o_t hf c_30
    exact hE60 _ (Option.some.inj hf).symm _ _ _ hR hS (lv_sub (l' := [(0, .ref (mo G)), (1, .int y1), (2, .int y2), (3, .int q.1)]) hl [0, 1, 2, 3] rfl)
  · replace hf := o_f hf c_30
    refine lv_iload_n hx hb dX4_pays_33 rfl (lv_at hl 3 rfl) ?_
    refine lv_aload_n hx hb dX4_pays_34 rfl (lv_at hl 0 rfl) ?_
    refine m_geta (k := 23) S hR (by decide) (by decide) q2549 dX4_pays_35 ?_
    refine lv_iload hx hb dX4_pays_38 (lv_at hl 4 rfl) ?_
    refine k_bind hf (fun v2 hv2 hf => ?_)
    refine m_iald S hR hv2 dX4_pays_40 ?_
    refine lv_if_ne (tgt := 51) hx hb dX4_pays_41 (by decide) (fun c_41 => ?_) (fun c_41 => ?_)
    · replace hf := o_f hf c_41
      refine lv_iconst (v := 0) hx hb dX4_pays_51 (by decide) ?_
      refine lv_ior hx hb dX4_pays_52 ?_
      refine k_bind hf (fun v3 hv3 hf => ?_)
      refine m_nmi hv3 ?_
      refine lv_istore_n (lv' := [(3, .int v3), (0, .ref (mo G)), (1, .int y1), (2, .int y2), (4, .int q.2)]) hx hb dX4_pays_53 rfl hl (by decide) rfl (fun ls hl => ?_)
      refine lv_iinc (lv' := [(4, .int (q.2 + (1 : Int32))), (3, .int v3), (0, .ref (mo G)), (1, .int y1), (2, .int y2)]) hx hb dX4_pays_54 hl (k := 4) rfl (m_inc (by decide)) (by decide) rfl (fun ls hl => ?_)
      refine lv_goto (tgt := 24) hx hb dX4_pays_57 (by decide) ?_
      exact hK _ (Option.some.inj hf).symm _ _ _ hR hS (lv_sub (l' := [(0, .ref (mo G)), (1, .int y1), (2, .int y2), (3, .int v3), (4, .int (q.2 + (1 : Int32)))]) hl [2, 3, 4, 1, 0] rfl)
    · replace hf := o_t hf c_41
      refine lv_iconst (v := 1) hx hb dX4_pays_44 (by decide) ?_
      refine lv_iload hx hb dX4_pays_45 (lv_at hl 4 rfl) ?_
      refine lv_ishl hx hb dX4_pays_47 ?_
      refine lv_goto (tgt := 52) hx hb dX4_pays_48 (by decide) ?_
      refine lv_ior hx hb dX4_pays_52 ?_
      refine k_bind hf (fun v4 hv4 hf => ?_)
      refine m_nmi hv4 ?_
      refine lv_istore_n (lv' := [(3, .int v4), (0, .ref (mo G)), (1, .int y1), (2, .int y2), (4, .int q.2)]) hx hb dX4_pays_53 rfl hl (by decide) rfl (fun ls hl => ?_)
      refine lv_iinc (lv' := [(4, .int (q.2 + (1 : Int32))), (3, .int v4), (0, .ref (mo G)), (1, .int y1), (2, .int y2)]) hx hb dX4_pays_54 hl (k := 4) rfl (m_inc (by decide)) (by decide) rfl (fun ls hl => ?_)
      refine lv_goto (tgt := 24) hx hb dX4_pays_57 (by decide) ?_
      exact hK _ (Option.some.inj hf).symm _ _ _ hR hS (lv_sub (l' := [(0, .ref (mo G)), (1, .int y1), (2, .int y2), (3, .int v4), (4, .int (q.2 + (1 : Int32)))]) hl [2, 3, 4, 1, 0] rfl)
set_option maxHeartbeats 4000000 in
set_option maxRecDepth 100000 in
theorem wLX4_pays_24 {l : Launch} {G : mG} {p : Program} {e : Env} {s : State} {m : MethodId} {args : Array Value} {below : List Frame} {meth : Method} {c : Code} {Q : State → Prop} {y1 : Int32} {y2 : Int32} {σ : mS} {q : Int32 × Int32} {res : Int32} (S : mSt G p m c cX4_pays 5 s args meth (Option.some Jvm.ClassFile.FieldType.int)) (h : lpw (LX4_pays_24 y1 y2 σ) q = some res) (hE60 : ∀ b, res = b → (∀ (H : Heap) (locs : List Loc) (ls : Array Slot), mR G σ H → va_S (mA G) s.heap H locs → lv_has ls 5 [(0, .ref (mo G)), (1, .int y1), (2, .int y2), (3, .int b)] → W p l e (mRm 3 72) s m args below meth c H locs 0 0 Q (F0 m 60 ls []))) : (∀ (H : Heap) (locs : List Loc) (ls : Array Slot), mR G σ H → va_S (mA G) s.heap H locs → lv_has ls 5 [(0, .ref (mo G)), (1, .int y1), (2, .int y2), (3, .int q.1), (4, .int q.2)] → W p l e (mRm 3 72) s m args below meth c H locs 0 0 Q (F0 m 24 ls [])) :=
  lpw_go _ (fun q => (∀ (H : Heap) (locs : List Loc) (ls : Array Slot), mR G σ H → va_S (mA G) s.heap H locs → lv_has ls 5 [(0, .ref (mo G)), (1, .int y1), (2, .int y2), (3, .int q.1), (4, .int q.2)] → W p l e (mRm 3 72) s m args below meth c H locs 0 0 Q (F0 m 24 ls []))) (fun b0 => (∀ b, b0 = b → (∀ (H : Heap) (locs : List Loc) (ls : Array Slot), mR G σ H → va_S (mA G) s.heap H locs → lv_has ls 5 [(0, .ref (mo G)), (1, .int y1), (2, .int y2), (3, .int b)] → W p l e (mRm 3 72) s m args below meth c H locs 0 0 Q (F0 m 60 ls [])))) (fun q x hf hK hX => wbLX4_pays_24 S hf hK (fun b eb => (hX _ eb) b rfl)) q res h hE60
set_option maxHeartbeats 4000000 in
set_option maxRecDepth 100000 in
theorem met_X4_pays {l : Launch} {G : mG} {x1 : Int32} {σ : mS} {res : Int32 × mS} (hf : fX4_pays x1 σ = some res) : mMet l yX4_pays cX4_pays 5 (Option.some Jvm.ClassFile.FieldType.int) (mRm 3 72) G [.ref (mo G), .int x1] σ (some (.int res.1)) res.2 := by
  replace hf : (if (fX4_in x1 (0 : Int32) (2 : Int32)) = (0 : Int32) then some ((-2 : Int32), σ) else (fX4_payments (-1 : Int32) (-1 : Int32) σ).bind (fun e1 => (lpw (LX4_pays_24 x1 e1.1 e1.2) ((0 : Int32), (0 : Int32))).bind (fun b5 => if x1 = (0 : Int32) then some (e1.1, e1.2) else if x1 = (1 : Int32) then some (b5, e1.2) else (fX4_costs b5 e1.2).bind (fun v6 => some (v6, e1.2))))) = some res := hf
  refine m_start (by decide) rfl (Nat.le_of_ble_eq_true rfl) ?_
  intro p e s m args below meth c S hR hS ls hl
  obtain ⟨hx, hb, hml, hown, hts⟩ := S.1.1
  have hl : lv_has ls 5 [(0, .ref (mo G)), (1, .int x1)] := hl
  refine lv_iload_n hx hb dX4_pays_0 rfl (lv_at hl 1 rfl) ?_
  refine lv_iconst (v := 0) hx hb dX4_pays_1 (by decide) ?_
  refine lv_iconst (v := 2) hx hb dX4_pays_2 (by decide) ?_
  refine s_call (As := [.int x1, .int (0 : Int32), .int (2 : Int32)]) (rest := []) S.1.1 (met_X4_in rfl) wi_X4_in q2681 ⟨rfl, rfl⟩ ⟨Nat.le_of_ble_eq_true rfl, Nat.le_of_ble_eq_true rfl⟩ rfl hl.1 rfl (Nat.le_of_ble_eq_true rfl) dX4_pays_3 ⟨Nat.zero_le _, Nat.zero_le _⟩ ?_
  refine lv_if_ne (tgt := 12) hx hb dX4_pays_6 (by decide) (fun c_6 => ?_) (fun c_6 => ?_)
  · replace hf := o_f hf c_6
    refine lv_aload_n hx hb dX4_pays_12 rfl (lv_at hl 0 rfl) ?_
    refine lv_iconst (v := -1) hx hb dX4_pays_13 (by decide) ?_
    refine lv_iconst (v := -1) hx hb dX4_pays_14 (by decide) ?_
    refine k_bind hf (fun e1 he1 hf => ?_)
    refine m_call (As := [.int (-1 : Int32), .int (-1 : Int32)]) (rest := []) S hR hS (met_X4_payments he1) wi_X4_payments rfl q2952 ⟨rfl, rfl⟩ ⟨Nat.le_of_ble_eq_true rfl, Nat.le_of_ble_eq_true rfl⟩ rfl hl.1 rfl (Nat.le_of_ble_eq_true rfl) dX4_pays_15 (fun H locs hR hS => ?_)
    refine lv_istore_n (lv' := [(2, .int e1.1), (0, .ref (mo G)), (1, .int x1)]) hx hb dX4_pays_18 rfl hl (by decide) rfl (fun ls hl => ?_)
    refine lv_iconst (v := 0) hx hb dX4_pays_19 (by decide) ?_
    refine lv_istore_n (lv' := [(3, .int (0 : Int32)), (2, .int e1.1), (0, .ref (mo G)), (1, .int x1)]) hx hb dX4_pays_20 rfl hl (by decide) rfl (fun ls hl => ?_)
    refine lv_iconst (v := 0) hx hb dX4_pays_21 (by decide) ?_
    refine lv_istore (lv' := [(4, .int (0 : Int32)), (3, .int (0 : Int32)), (2, .int e1.1), (0, .ref (mo G)), (1, .int x1)]) hx hb dX4_pays_22 hl (by decide) rfl (fun ls hl => ?_)
    refine k_bind hf (fun b5 hb5 hf => ?_)
    refine wLX4_pays_24 S hb5 ?_ _ _ _ hR hS (lv_sub (l' := [(0, .ref (mo G)), (1, .int x1), (2, .int e1.1), (3, .int (0 : Int32)), (4, .int (0 : Int32))]) hl [3, 4, 2, 1, 0] rfl)
    · intro b eb; subst eb; intro H locs ls hR hS hl
      refine lv_iload_n hx hb dX4_pays_60 rfl (lv_at hl 1 rfl) ?_
      refine lv_if_ne (tgt := 68) hx hb dX4_pays_61 (by decide) (fun c_61 => ?_) (fun c_61 => ?_)
      · replace hf := o_f hf c_61
        refine lv_iload_n hx hb dX4_pays_68 rfl (lv_at hl 1 rfl) ?_
        refine lv_iconst (v := 1) hx hb dX4_pays_69 (by decide) ?_
        refine lv_icmp_ne (tgt := 77) hx hb dX4_pays_70 (by decide) (fun c_70 => ?_) (fun c_70 => ?_)
        · replace hf := o_f hf c_70
          refine lv_aload_n hx hb dX4_pays_77 rfl (lv_at hl 0 rfl) ?_
          refine lv_iload_n hx hb dX4_pays_78 rfl (lv_at hl 3 rfl) ?_
          refine k_bind hf (fun v6 hv6 hf => ?_)
          refine m_call (As := [.int b5]) (rest := []) S hR hS (met_X4_costs hv6) wi_X4_costs rfl q2757 ⟨rfl, rfl⟩ ⟨Nat.le_of_ble_eq_true rfl, Nat.le_of_ble_eq_true rfl⟩ rfl hl.1 rfl (Nat.le_of_ble_eq_true rfl) dX4_pays_79 (fun H locs hR hS => ?_)
          obtain rfl := Option.some.inj hf
          exact m_iret S hR hS rfl dX4_pays_82
        · replace hf := o_t hf c_70
          refine lv_iload_n hx hb dX4_pays_73 rfl (lv_at hl 3 rfl) ?_
          refine lv_goto (tgt := 82) hx hb dX4_pays_74 (by decide) ?_
          obtain rfl := Option.some.inj hf
          exact m_iret S hR hS rfl dX4_pays_82
      · replace hf := o_t hf c_61
        refine lv_iload_n hx hb dX4_pays_64 rfl (lv_at hl 2 rfl) ?_
        refine lv_goto (tgt := 82) hx hb dX4_pays_65 (by decide) ?_
        obtain rfl := Option.some.inj hf
        exact m_iret S hR hS rfl dX4_pays_82
  · replace hf := o_t hf c_6
    refine lv_bipush (v := -2) hx hb dX4_pays_9 (by decide) ?_
    obtain rfl := Option.some.inj hf
    exact m_iret S hR hS rfl dX4_pays_11

noncomputable def fX4_paid (x1 : Int32) (x2 : Int32) (σ : mS) : Option (Int32 × mS) :=
  if (fX4_areTwo x1 x2 σ) = (0 : Int32) then some ((-2 : Int32), σ) else (mald σ 4 x1).bind (fun v1 => if (fX4_has v1 x2) = (0 : Int32) then some ((-1 : Int32), σ) else (fX4_payments x1 x2 σ).bind (fun e2 => some (e2.1, e2.2)))
theorem wi_X4_paid : wInfV yX4_paid cX4_paid 3 (Option.some Jvm.ClassFile.FieldType.int) 2 := ⟨q2957, q2958, q116, q2959, (by decide +kernel), (by decide +kernel), (by decide +kernel)⟩
set_option maxHeartbeats 4000000 in
set_option maxRecDepth 100000 in
theorem met_X4_paid {l : Launch} {G : mG} {x1 : Int32} {x2 : Int32} {σ : mS} {res : Int32 × mS} (hf : fX4_paid x1 x2 σ = some res) : mMet l yX4_paid cX4_paid 3 (Option.some Jvm.ClassFile.FieldType.int) (mRm 3 72) G [.ref (mo G), .int x1, .int x2] σ (some (.int res.1)) res.2 := by
  replace hf : (if (fX4_areTwo x1 x2 σ) = (0 : Int32) then some ((-2 : Int32), σ) else (mald σ 4 x1).bind (fun v1 => if (fX4_has v1 x2) = (0 : Int32) then some ((-1 : Int32), σ) else (fX4_payments x1 x2 σ).bind (fun e2 => some (e2.1, e2.2)))) = some res := hf
  refine m_start (by decide) rfl (Nat.le_of_ble_eq_true rfl) ?_
  intro p e s m args below meth c S hR hS ls hl
  obtain ⟨hx, hb, hml, hown, hts⟩ := S.1.1
  have hl : lv_has ls 3 [(0, .ref (mo G)), (1, .int x1), (2, .int x2)] := hl
  refine lv_aload_n hx hb dX4_paid_0 rfl (lv_at hl 0 rfl) ?_
  refine lv_iload_n hx hb dX4_paid_1 rfl (lv_at hl 1 rfl) ?_
  refine lv_iload_n hx hb dX4_paid_2 rfl (lv_at hl 2 rfl) ?_
  refine m_call (As := [.int x1, .int x2]) (rest := []) S hR hS (met_X4_areTwo rfl) wi_X4_areTwo rfl q2692 ⟨rfl, rfl⟩ ⟨Nat.le_of_ble_eq_true rfl, Nat.le_of_ble_eq_true rfl⟩ rfl hl.1 rfl (Nat.le_of_ble_eq_true rfl) dX4_paid_3 (fun H locs hR hS => ?_)
  refine lv_if_ne (tgt := 14) hx hb dX4_paid_6 (by decide) (fun c_6 => ?_) (fun c_6 => ?_)
  · replace hf := o_f hf c_6
    refine lv_aload_n hx hb dX4_paid_14 rfl (lv_at hl 0 rfl) ?_
    refine m_geta (k := 4) S hR (by decide) (by decide) q2530 dX4_paid_15 ?_
    refine lv_iload_n hx hb dX4_paid_18 rfl (lv_at hl 1 rfl) ?_
    refine k_bind hf (fun v1 hv1 hf => ?_)
    refine m_iald S hR hv1 dX4_paid_19 ?_
    refine lv_iload_n hx hb dX4_paid_20 rfl (lv_at hl 2 rfl) ?_
    refine s_call (As := [.int v1, .int x2]) (rest := []) S.1.1 (met_X4_has rfl) wi_X4_has q2750 ⟨rfl, rfl⟩ ⟨Nat.le_of_ble_eq_true rfl, Nat.le_of_ble_eq_true rfl⟩ rfl hl.1 rfl (Nat.le_of_ble_eq_true rfl) dX4_paid_21 ⟨Nat.zero_le _, Nat.zero_le _⟩ ?_
    refine lv_if_eq (tgt := 36) hx hb dX4_paid_24 (by decide) (fun c_24 => ?_) (fun c_24 => ?_)
    · replace hf := o_t hf c_24
      refine lv_iconst (v := -1) hx hb dX4_paid_36 (by decide) ?_
      obtain rfl := Option.some.inj hf
      exact m_iret S hR hS rfl dX4_paid_37
    · replace hf := o_f hf c_24
      refine lv_aload_n hx hb dX4_paid_27 rfl (lv_at hl 0 rfl) ?_
      refine lv_iload_n hx hb dX4_paid_28 rfl (lv_at hl 1 rfl) ?_
      refine lv_iload_n hx hb dX4_paid_29 rfl (lv_at hl 2 rfl) ?_
      refine k_bind hf (fun e2 he2 hf => ?_)
      refine m_call (As := [.int x1, .int x2]) (rest := []) S hR hS (met_X4_payments he2) wi_X4_payments rfl q2952 ⟨rfl, rfl⟩ ⟨Nat.le_of_ble_eq_true rfl, Nat.le_of_ble_eq_true rfl⟩ rfl hl.1 rfl (Nat.le_of_ble_eq_true rfl) dX4_paid_30 (fun H locs hR hS => ?_)
      refine lv_goto (tgt := 37) hx hb dX4_paid_33 (by decide) ?_
      obtain rfl := Option.some.inj hf
      exact m_iret S hR hS rfl dX4_paid_37
  · replace hf := o_t hf c_6
    refine lv_bipush (v := -2) hx hb dX4_paid_9 (by decide) ?_
    refine lv_goto (tgt := 37) hx hb dX4_paid_11 (by decide) ?_
    obtain rfl := Option.some.inj hf
    exact m_iret S hR hS rfl dX4_paid_37

noncomputable def LX4_feed_31 (y1 : Int32) (q : Int32 × mS) : Option ((Int32 × mS) ⊕ (mS)) :=
  if q.1 < (0 : Int32) then some (Sum.inr q.2) else (mast q.2 24 (q.2.1 25) ((isr y1 ((8 : Int32) * q.1)) &&& (255 : Int32))).bind (fun σ2 => (mput σ2 25 ((σ2.1 25) + (1 : Int32))).bind (fun σ3 => (some (q.1 + (-1 : Int32))).bind (fun v4 => some (Sum.inl (v4, σ3)))))
noncomputable def fX4_feed (x1 : Int32) (x2 : Int32) (σ : mS) : Option (Int32 × mS) :=
  if (fX4_in x2 (1 : Int32) (4 : Int32)) = (0 : Int32) then some ((-2 : Int32), σ) else if ((σ.1 25) + x2) ≤ (200 : Int32) then (some (x2 - (1 : Int32))).bind (fun v1 => (lpw (LX4_feed_31 x1) (v1, σ)).bind (fun b5 => some ((b5.1 25), b5))) else some ((-4 : Int32), σ)
theorem wi_X4_feed : wInfV yX4_feed cX4_feed 4 (Option.some Jvm.ClassFile.FieldType.int) 2 := ⟨q2961, q2962, q116, q2963, (by decide +kernel), (by decide +kernel), (by decide +kernel)⟩
set_option maxHeartbeats 4000000 in
set_option maxRecDepth 100000 in
theorem wbLX4_feed_31 {l : Launch} {G : mG} {p : Program} {e : Env} {s : State} {m : MethodId} {args : Array Value} {below : List Frame} {meth : Method} {c : Code} {Q : State → Prop} {y1 : Int32} {q : Int32 × mS} {res : (Int32 × mS) ⊕ (mS)} (S : mSt G p m c cX4_feed 4 s args meth (Option.some Jvm.ClassFile.FieldType.int)) (hf : LX4_feed_31 y1 q = some res) (hK : ∀ q, res = Sum.inl q → (∀ (H : Heap) (locs : List Loc) (ls : Array Slot), mR G q.2 H → va_S (mA G) s.heap H locs → lv_has ls 4 [(0, .ref (mo G)), (1, .int y1), (3, .int q.1)] → W p l e (mRm 1 22) s m args below meth c H locs 0 0 Q (F0 m 31 ls []))) (hE70 : ∀ b, res = Sum.inr b → (∀ (H : Heap) (locs : List Loc) (ls : Array Slot), mR G b H → va_S (mA G) s.heap H locs → lv_has ls 4 [(0, .ref (mo G))] → W p l e (mRm 1 22) s m args below meth c H locs 0 0 Q (F0 m 70 ls []))) : (∀ (H : Heap) (locs : List Loc) (ls : Array Slot), mR G q.2 H → va_S (mA G) s.heap H locs → lv_has ls 4 [(0, .ref (mo G)), (1, .int y1), (3, .int q.1)] → W p l e (mRm 1 22) s m args below meth c H locs 0 0 Q (F0 m 31 ls [])) := by
  replace hf : (if q.1 < (0 : Int32) then some (Sum.inr q.2) else (mast q.2 24 (q.2.1 25) ((isr y1 ((8 : Int32) * q.1)) &&& (255 : Int32))).bind (fun σ2 => (mput σ2 25 ((σ2.1 25) + (1 : Int32))).bind (fun σ3 => (some (q.1 + (-1 : Int32))).bind (fun v4 => some (Sum.inl (v4, σ3)))))) = some res := hf
  obtain ⟨hx, hb, hml, hown, hts⟩ := S.1.1
  intro H locs ls hR hS hl
  refine lv_iload_n hx hb dX4_feed_31 rfl (lv_at hl 2 rfl) ?_
  refine lv_if_lt (tgt := 70) hx hb dX4_feed_32 (by decide) (fun c_32 => ?_) (fun c_32 => ?_)
  · replace hf := o_t hf c_32
    exact hE70 _ (Option.some.inj hf).symm _ _ _ hR hS (lv_sub (l' := [(0, .ref (mo G))]) hl [0] rfl)
  · replace hf := o_f hf c_32
    refine lv_aload_n hx hb dX4_feed_35 rfl (lv_at hl 0 rfl) ?_
    refine m_geta (k := 24) S hR (by decide) (by decide) q2550 dX4_feed_36 ?_
    refine lv_aload_n hx hb dX4_feed_39 rfl (lv_at hl 0 rfl) ?_
    refine m_geti (k := 25) S hR (by decide) (by decide) q2551 dX4_feed_40 ?_
    refine lv_iload_n hx hb dX4_feed_43 rfl (lv_at hl 1 rfl) ?_
    refine lv_bipush (v := 8) hx hb dX4_feed_44 (by decide) ?_
    refine lv_iload_n hx hb dX4_feed_46 rfl (lv_at hl 2 rfl) ?_
    refine lv_imul hx hb dX4_feed_47 ?_
    refine lv_ishr hx hb dX4_feed_48 ?_
    refine lv_sipush (v := 255) hx hb dX4_feed_49 (by decide) ?_
    refine lv_iand hx hb dX4_feed_52 ?_
    refine k_bind hf (fun σ2 hσ2 hf => ?_)
    refine m_iast S hR hS hσ2 dX4_feed_53 (fun H locs hR hS => ?_)
    refine lv_aload_n hx hb dX4_feed_54 rfl (lv_at hl 0 rfl) ?_
    refine lv_dup hx hb dX4_feed_55 rfl ?_
    refine m_geti (k := 25) S hR (by decide) (by decide) q2551 dX4_feed_56 ?_
    refine lv_iconst (v := 1) hx hb dX4_feed_59 (by decide) ?_
    refine lv_iadd hx hb dX4_feed_60 ?_
    refine k_bind hf (fun σ3 hσ3 hf => ?_)
    refine m_puti (k := 25) S hR hS hσ3 (by decide) (by decide) rfl rfl rfl rfl q2551 dX4_feed_61 (fun H locs hR hS => ?_)
    refine k_bind hf (fun v4 hv4 hf => ?_)
    refine lv_iinc (lv' := [(3, .int v4), (0, .ref (mo G)), (1, .int y1)]) hx hb dX4_feed_64 hl (k := 2) rfl ((m_inc (by decide)).trans (Option.some.inj hv4)) (by decide) rfl (fun ls hl => ?_)
    refine lv_goto (tgt := 31) hx hb dX4_feed_67 (by decide) ?_
    exact hK _ (Option.some.inj hf).symm _ _ _ hR hS (lv_sub (l' := [(0, .ref (mo G)), (1, .int y1), (3, .int v4)]) hl [1, 2, 0] rfl)
set_option maxHeartbeats 4000000 in
set_option maxRecDepth 100000 in
theorem wLX4_feed_31 {l : Launch} {G : mG} {p : Program} {e : Env} {s : State} {m : MethodId} {args : Array Value} {below : List Frame} {meth : Method} {c : Code} {Q : State → Prop} {y1 : Int32} {q : Int32 × mS} {res : mS} (S : mSt G p m c cX4_feed 4 s args meth (Option.some Jvm.ClassFile.FieldType.int)) (h : lpw (LX4_feed_31 y1) q = some res) (hE70 : ∀ b, res = b → (∀ (H : Heap) (locs : List Loc) (ls : Array Slot), mR G b H → va_S (mA G) s.heap H locs → lv_has ls 4 [(0, .ref (mo G))] → W p l e (mRm 1 22) s m args below meth c H locs 0 0 Q (F0 m 70 ls []))) : (∀ (H : Heap) (locs : List Loc) (ls : Array Slot), mR G q.2 H → va_S (mA G) s.heap H locs → lv_has ls 4 [(0, .ref (mo G)), (1, .int y1), (3, .int q.1)] → W p l e (mRm 1 22) s m args below meth c H locs 0 0 Q (F0 m 31 ls [])) :=
  lpw_go _ (fun q => (∀ (H : Heap) (locs : List Loc) (ls : Array Slot), mR G q.2 H → va_S (mA G) s.heap H locs → lv_has ls 4 [(0, .ref (mo G)), (1, .int y1), (3, .int q.1)] → W p l e (mRm 1 22) s m args below meth c H locs 0 0 Q (F0 m 31 ls []))) (fun b0 => (∀ b, b0 = b → (∀ (H : Heap) (locs : List Loc) (ls : Array Slot), mR G b H → va_S (mA G) s.heap H locs → lv_has ls 4 [(0, .ref (mo G))] → W p l e (mRm 1 22) s m args below meth c H locs 0 0 Q (F0 m 70 ls [])))) (fun q x hf hK hX => wbLX4_feed_31 S hf hK (fun b eb => (hX _ eb) b rfl)) q res h hE70
set_option maxHeartbeats 4000000 in
set_option maxRecDepth 100000 in
theorem met_X4_feed {l : Launch} {G : mG} {x1 : Int32} {x2 : Int32} {σ : mS} {res : Int32 × mS} (hf : fX4_feed x1 x2 σ = some res) : mMet l yX4_feed cX4_feed 4 (Option.some Jvm.ClassFile.FieldType.int) (mRm 1 22) G [.ref (mo G), .int x1, .int x2] σ (some (.int res.1)) res.2 := by
  replace hf : (if (fX4_in x2 (1 : Int32) (4 : Int32)) = (0 : Int32) then some ((-2 : Int32), σ) else if ((σ.1 25) + x2) ≤ (200 : Int32) then (some (x2 - (1 : Int32))).bind (fun v1 => (lpw (LX4_feed_31 x1) (v1, σ)).bind (fun b5 => some ((b5.1 25), b5))) else some ((-4 : Int32), σ)) = some res := hf
  refine m_start (by decide) rfl (Nat.le_of_ble_eq_true rfl) ?_
  intro p e s m args below meth c S hR hS ls hl
  obtain ⟨hx, hb, hml, hown, hts⟩ := S.1.1
  have hl : lv_has ls 4 [(0, .ref (mo G)), (1, .int x1), (2, .int x2)] := hl
  refine lv_iload_n hx hb dX4_feed_0 rfl (lv_at hl 2 rfl) ?_
  refine lv_iconst (v := 1) hx hb dX4_feed_1 (by decide) ?_
  refine lv_iconst (v := 4) hx hb dX4_feed_2 (by decide) ?_
  refine s_call (As := [.int x2, .int (1 : Int32), .int (4 : Int32)]) (rest := []) S.1.1 (met_X4_in rfl) wi_X4_in q2681 ⟨rfl, rfl⟩ ⟨Nat.le_of_ble_eq_true rfl, Nat.le_of_ble_eq_true rfl⟩ rfl hl.1 rfl (Nat.le_of_ble_eq_true rfl) dX4_feed_3 ⟨Nat.zero_le _, Nat.zero_le _⟩ ?_
  refine lv_if_ne (tgt := 12) hx hb dX4_feed_6 (by decide) (fun c_6 => ?_) (fun c_6 => ?_)
  · replace hf := o_f hf c_6
    refine lv_aload_n hx hb dX4_feed_12 rfl (lv_at hl 0 rfl) ?_
    refine m_geti (k := 25) S hR (by decide) (by decide) q2551 dX4_feed_13 ?_
    refine lv_iload_n hx hb dX4_feed_16 rfl (lv_at hl 2 rfl) ?_
    refine lv_iadd hx hb dX4_feed_17 ?_
    refine lv_sipush (v := 200) hx hb dX4_feed_18 (by decide) ?_
    refine lv_icmp_le (tgt := 27) hx hb dX4_feed_21 (by decide) (fun c_21 => ?_) (fun c_21 => ?_)
    · replace hf := o_t hf c_21
      refine lv_iload_n hx hb dX4_feed_27 rfl (lv_at hl 2 rfl) ?_
      refine lv_iconst (v := 1) hx hb dX4_feed_28 (by decide) ?_
      refine lv_isub hx hb dX4_feed_29 ?_
      refine k_bind hf (fun v1 hv1 hf => ?_)
      refine m_nmi hv1 ?_
      refine lv_istore_n (lv' := [(3, .int v1), (0, .ref (mo G)), (1, .int x1), (2, .int x2)]) hx hb dX4_feed_30 rfl hl (by decide) rfl (fun ls hl => ?_)
      refine k_bind hf (fun b5 hb5 hf => ?_)
      refine wLX4_feed_31 S hb5 ?_ _ _ _ hR hS (lv_sub (l' := [(0, .ref (mo G)), (1, .int x1), (3, .int v1)]) hl [1, 2, 0] rfl)
      · intro b eb; subst eb; intro H locs ls hR hS hl
        refine lv_aload_n hx hb dX4_feed_70 rfl (lv_at hl 0 rfl) ?_
        refine m_geti (k := 25) S hR (by decide) (by decide) q2551 dX4_feed_71 ?_
        obtain rfl := Option.some.inj hf
        exact m_iret S hR hS rfl dX4_feed_74
    · replace hf := o_f hf c_21
      refine lv_bipush (v := -4) hx hb dX4_feed_24 (by decide) ?_
      obtain rfl := Option.some.inj hf
      exact m_iret S hR hS rfl dX4_feed_26
  · replace hf := o_t hf c_6
    refine lv_bipush (v := -2) hx hb dX4_feed_9 (by decide) ?_
    obtain rfl := Option.some.inj hf
    exact m_iret S hR hS rfl dX4_feed_11

noncomputable def fX4_wipe (σ : mS) : Option (Int32 × mS) :=
  (some (σ.1 25)).bind (fun v1 => (mput σ 25 (0 : Int32)).bind (fun σ2 => some (v1, σ2)))
theorem wi_X4_wipe : wInfV yX4_wipe cX4_wipe 2 (Option.some Jvm.ClassFile.FieldType.int) 0 := ⟨q2965, q2966, q116, q2967, (by decide +kernel), (by decide +kernel), (by decide +kernel)⟩
set_option maxHeartbeats 4000000 in
set_option maxRecDepth 100000 in
theorem met_X4_wipe {l : Launch} {G : mG} {σ : mS} {res : Int32 × mS} (hf : fX4_wipe σ = some res) : mMet l yX4_wipe cX4_wipe 2 (Option.some Jvm.ClassFile.FieldType.int) (mRm 0 0) G [.ref (mo G)] σ (some (.int res.1)) res.2 := by
  replace hf : ((some (σ.1 25)).bind (fun v1 => (mput σ 25 (0 : Int32)).bind (fun σ2 => some (v1, σ2)))) = some res := hf
  refine m_start (by decide) rfl (Nat.le_of_ble_eq_true rfl) ?_
  intro p e s m args below meth c S hR hS ls hl
  obtain ⟨hx, hb, hml, hown, hts⟩ := S.1.1
  have hl : lv_has ls 2 [(0, .ref (mo G))] := hl
  refine lv_aload_n hx hb dX4_wipe_0 rfl (lv_at hl 0 rfl) ?_
  refine m_geti (k := 25) S hR (by decide) (by decide) q2551 dX4_wipe_1 ?_
  refine k_bind hf (fun v1 hv1 hf => ?_)
  refine m_nmi hv1 ?_
  refine lv_istore_n (lv' := [(1, .int v1), (0, .ref (mo G))]) hx hb dX4_wipe_4 rfl hl (by decide) rfl (fun ls hl => ?_)
  refine lv_aload_n hx hb dX4_wipe_5 rfl (lv_at hl 1 rfl) ?_
  refine lv_iconst (v := 0) hx hb dX4_wipe_6 (by decide) ?_
  refine k_bind hf (fun σ2 hσ2 hf => ?_)
  refine m_puti (k := 25) S hR hS hσ2 (by decide) (by decide) rfl rfl rfl rfl q2551 dX4_wipe_7 (fun H locs hR hS => ?_)
  refine lv_iload_n hx hb dX4_wipe_10 rfl (lv_at hl 0 rfl) ?_
  obtain rfl := Option.some.inj hf
  exact m_iret S hR hS rfl dX4_wipe_11

noncomputable def fX4_isFrom (x1 : Int32) (x2 : Int32) (x3 : Int32) (σ : mS) : Option Int32 :=
  if (σ.1 25) ≤ x1 then some (0 : Int32) else (mald σ 24 x1).bind (fun v1 => if (fX4_in v1 x2 x3) = (0 : Int32) then some (0 : Int32) else some (1 : Int32))
theorem wi_X4_isFrom : wInfV yX4_isFrom cX4_isFrom 4 (Option.some Jvm.ClassFile.FieldType.boolean) 3 := ⟨q2978, qs91, q116, q2979, (by decide +kernel), (by decide +kernel), (by decide +kernel)⟩
set_option maxHeartbeats 4000000 in
set_option maxRecDepth 100000 in
theorem met_X4_isFrom {l : Launch} {G : mG} {x1 : Int32} {x2 : Int32} {x3 : Int32} {σ : mS} {res : Int32} (hf : fX4_isFrom x1 x2 x3 σ = some res) : mMet l yX4_isFrom cX4_isFrom 4 (Option.some Jvm.ClassFile.FieldType.boolean) (mRm 1 22) G [.ref (mo G), .int x1, .int x2, .int x3] σ (some (.int res)) σ := by
  replace hf : (if (σ.1 25) ≤ x1 then some (0 : Int32) else (mald σ 24 x1).bind (fun v1 => if (fX4_in v1 x2 x3) = (0 : Int32) then some (0 : Int32) else some (1 : Int32))) = some res := hf
  refine m_start (by decide) rfl (Nat.le_of_ble_eq_true rfl) ?_
  intro p e s m args below meth c S hR hS ls hl
  obtain ⟨hx, hb, hml, hown, hts⟩ := S.1.1
  have hl : lv_has ls 4 [(0, .ref (mo G)), (1, .int x1), (2, .int x2), (3, .int x3)] := hl
  refine lv_iload_n hx hb dX4_isFrom_0 rfl (lv_at hl 1 rfl) ?_
  refine lv_aload_n hx hb dX4_isFrom_1 rfl (lv_at hl 0 rfl) ?_
  refine m_geti (k := 25) S hR (by decide) (by decide) q2551 dX4_isFrom_2 ?_
  refine lv_icmp_ge (tgt := 26) hx hb dX4_isFrom_5 (by decide) (fun c_5 => ?_) (fun c_5 => ?_)
  · replace hf := o_t hf c_5
    refine lv_iconst (v := 0) hx hb dX4_isFrom_26 (by decide) ?_
    obtain rfl := Option.some.inj hf
    exact m_iret S hR hS rfl dX4_isFrom_27
  · replace hf := o_f hf c_5
    refine lv_aload_n hx hb dX4_isFrom_8 rfl (lv_at hl 0 rfl) ?_
    refine m_geta (k := 24) S hR (by decide) (by decide) q2550 dX4_isFrom_9 ?_
    refine lv_iload_n hx hb dX4_isFrom_12 rfl (lv_at hl 1 rfl) ?_
    refine k_bind hf (fun v1 hv1 hf => ?_)
    refine m_iald S hR hv1 dX4_isFrom_13 ?_
    refine lv_iload_n hx hb dX4_isFrom_14 rfl (lv_at hl 2 rfl) ?_
    refine lv_iload_n hx hb dX4_isFrom_15 rfl (lv_at hl 3 rfl) ?_
    refine s_call (As := [.int v1, .int x2, .int x3]) (rest := []) S.1.1 (met_X4_in rfl) wi_X4_in q2681 ⟨rfl, rfl⟩ ⟨Nat.le_of_ble_eq_true rfl, Nat.le_of_ble_eq_true rfl⟩ rfl hl.1 rfl (Nat.le_of_ble_eq_true rfl) dX4_isFrom_16 ⟨Nat.zero_le _, Nat.zero_le _⟩ ?_
    refine lv_if_eq (tgt := 26) hx hb dX4_isFrom_19 (by decide) (fun c_19 => ?_) (fun c_19 => ?_)
    · replace hf := o_t hf c_19
      refine lv_iconst (v := 0) hx hb dX4_isFrom_26 (by decide) ?_
      obtain rfl := Option.some.inj hf
      exact m_iret S hR hS rfl dX4_isFrom_27
    · replace hf := o_f hf c_19
      refine lv_iconst (v := 1) hx hb dX4_isFrom_22 (by decide) ?_
      refine lv_goto (tgt := 27) hx hb dX4_isFrom_23 (by decide) ?_
      obtain rfl := Option.some.inj hf
      exact m_iret S hR hS rfl dX4_isFrom_27

noncomputable def JX4_isWord_115 (y1 : Int32) (y8 : Int32) (y9 : Int32) (σ : mS) : Option Int32 :=
  if y9 < (6 : Int32) then some (1 : Int32) else (mald σ 24 (y1 + (5 : Int32))).bind (fun v4 => if v4 = y8 then some (1 : Int32) else some (0 : Int32))
noncomputable def JX4_isWord_96 (y1 : Int32) (y7 : Int32) (y8 : Int32) (y9 : Int32) (σ : mS) : Option Int32 :=
  if y9 < (5 : Int32) then JX4_isWord_115 y1 y8 y9 σ else (mald σ 24 (y1 + (4 : Int32))).bind (fun v5 => if v5 = y7 then JX4_isWord_115 y1 y8 y9 σ else some (0 : Int32))
noncomputable def JX4_isWord_29 (y1 : Int32) (y2 : Int32) (y3 : Int32) (y4 : Int32) (y5 : Int32) (y6 : Int32) (y7 : Int32) (y8 : Int32) (z0 : Int32) (σ : mS) : Option Int32 :=
  if (y2 - y1) = z0 then (mald σ 24 y1).bind (fun v1 => if v1 = y3 then (mald σ 24 (y1 + (1 : Int32))).bind (fun v2 => if v2 = y4 then (mald σ 24 (y1 + (2 : Int32))).bind (fun v3 => if v3 = y5 then if z0 < (4 : Int32) then JX4_isWord_96 y1 y7 y8 z0 σ else (mald σ 24 (y1 + (3 : Int32))).bind (fun v6 => if v6 = y6 then JX4_isWord_96 y1 y7 y8 z0 σ else some (0 : Int32)) else some (0 : Int32)) else some (0 : Int32)) else some (0 : Int32)) else some (0 : Int32)
noncomputable def fX4_isWord (x1 : Int32) (x2 : Int32) (x3 : Int32) (x4 : Int32) (x5 : Int32) (x6 : Int32) (x7 : Int32) (x8 : Int32) (σ : mS) : Option Int32 :=
  if x6 = (0 : Int32) then JX4_isWord_29 x1 x2 x3 x4 x5 x6 x7 x8 (3 : Int32) σ else if x7 = (0 : Int32) then JX4_isWord_29 x1 x2 x3 x4 x5 x6 x7 x8 (4 : Int32) σ else if x8 = (0 : Int32) then JX4_isWord_29 x1 x2 x3 x4 x5 x6 x7 x8 (5 : Int32) σ else JX4_isWord_29 x1 x2 x3 x4 x5 x6 x7 x8 (6 : Int32) σ
theorem wi_X4_isWord : wInfV yX4_isWord cX4_isWord 10 (Option.some Jvm.ClassFile.FieldType.boolean) 8 := ⟨q2986, qs93, q116, q2987, (by decide +kernel), (by decide +kernel), (by decide +kernel)⟩
set_option maxHeartbeats 4000000 in
set_option maxRecDepth 100000 in
theorem wJX4_isWord_115 {l : Launch} {G : mG} {p : Program} {e : Env} {s : State} {m : MethodId} {args : Array Value} {below : List Frame} {meth : Method} {c : Code} {y1 : Int32} {y8 : Int32} {y9 : Int32} {σ : mS} {res : Int32} (S : mSt G p m c cX4_isWord 10 s args meth (Option.some Jvm.ClassFile.FieldType.boolean)) (hf : JX4_isWord_115 y1 y8 y9 σ = some res) : ∀ (H : Heap) (locs : List Loc) (ls : Array Slot), mR G σ H → va_S (mA G) s.heap H locs → lv_has ls 10 [(0, .ref (mo G)), (1, .int y1), (8, .int y8), (9, .int y9)] → W p l e (mRm 0 0) s m args below meth c H locs 0 0 (MQ below (mQ G (some (.int res)) σ) args s 0 0 (mA G)) (F0 m 115 ls []) := by
  replace hf : (if y9 < (6 : Int32) then some (1 : Int32) else (mald σ 24 (y1 + (5 : Int32))).bind (fun v4 => if v4 = y8 then some (1 : Int32) else some (0 : Int32))) = some res := hf
  obtain ⟨hx, hb, hml, hown, hts⟩ := S.1.1
  intro H locs ls hR hS hl
  refine lv_iload hx hb dX4_isWord_115 (lv_at hl 3 rfl) ?_
  refine lv_bipush (v := 6) hx hb dX4_isWord_117 (by decide) ?_
  refine lv_icmp_lt (tgt := 135) hx hb dX4_isWord_119 (by decide) (fun c_119 => ?_) (fun c_119 => ?_)
  · replace hf := o_t hf c_119
    refine lv_iconst (v := 1) hx hb dX4_isWord_135 (by decide) ?_
    refine lv_goto (tgt := 140) hx hb dX4_isWord_136 (by decide) ?_
    obtain rfl := Option.some.inj hf
    exact m_iret S hR hS rfl dX4_isWord_140
  · replace hf := o_f hf c_119
    refine lv_aload_n hx hb dX4_isWord_122 rfl (lv_at hl 0 rfl) ?_
    refine m_geta (k := 24) S hR (by decide) (by decide) q2550 dX4_isWord_123 ?_
    refine lv_iload_n hx hb dX4_isWord_126 rfl (lv_at hl 1 rfl) ?_
    refine lv_iconst (v := 5) hx hb dX4_isWord_127 (by decide) ?_
    refine lv_iadd hx hb dX4_isWord_128 ?_
    refine k_bind hf (fun v4 hv4 hf => ?_)
    refine m_iald S hR hv4 dX4_isWord_129 ?_
    refine lv_iload hx hb dX4_isWord_130 (lv_at hl 2 rfl) ?_
    refine lv_icmp_ne (tgt := 139) hx hb dX4_isWord_132 (by decide) (fun c_132 => ?_) (fun c_132 => ?_)
    · replace hf := o_f hf c_132
      refine lv_iconst (v := 0) hx hb dX4_isWord_139 (by decide) ?_
      obtain rfl := Option.some.inj hf
      exact m_iret S hR hS rfl dX4_isWord_140
    · replace hf := o_t hf c_132
      refine lv_iconst (v := 1) hx hb dX4_isWord_135 (by decide) ?_
      refine lv_goto (tgt := 140) hx hb dX4_isWord_136 (by decide) ?_
      obtain rfl := Option.some.inj hf
      exact m_iret S hR hS rfl dX4_isWord_140
set_option maxHeartbeats 4000000 in
set_option maxRecDepth 100000 in
theorem wJX4_isWord_96 {l : Launch} {G : mG} {p : Program} {e : Env} {s : State} {m : MethodId} {args : Array Value} {below : List Frame} {meth : Method} {c : Code} {y1 : Int32} {y7 : Int32} {y8 : Int32} {y9 : Int32} {σ : mS} {res : Int32} (S : mSt G p m c cX4_isWord 10 s args meth (Option.some Jvm.ClassFile.FieldType.boolean)) (hf : JX4_isWord_96 y1 y7 y8 y9 σ = some res) : ∀ (H : Heap) (locs : List Loc) (ls : Array Slot), mR G σ H → va_S (mA G) s.heap H locs → lv_has ls 10 [(0, .ref (mo G)), (1, .int y1), (7, .int y7), (8, .int y8), (9, .int y9)] → W p l e (mRm 0 0) s m args below meth c H locs 0 0 (MQ below (mQ G (some (.int res)) σ) args s 0 0 (mA G)) (F0 m 96 ls []) := by
  replace hf : (if y9 < (5 : Int32) then JX4_isWord_115 y1 y8 y9 σ else (mald σ 24 (y1 + (4 : Int32))).bind (fun v5 => if v5 = y7 then JX4_isWord_115 y1 y8 y9 σ else some (0 : Int32))) = some res := hf
  obtain ⟨hx, hb, hml, hown, hts⟩ := S.1.1
  intro H locs ls hR hS hl
  refine lv_iload hx hb dX4_isWord_96 (lv_at hl 4 rfl) ?_
  refine lv_iconst (v := 5) hx hb dX4_isWord_98 (by decide) ?_
  refine lv_icmp_lt (tgt := 115) hx hb dX4_isWord_99 (by decide) (fun c_99 => ?_) (fun c_99 => ?_)
  · replace hf := o_t hf c_99
    exact wJX4_isWord_115 S hf _ _ _ hR hS (lv_sub (l' := [(0, .ref (mo G)), (1, .int y1), (8, .int y8), (9, .int y9)]) hl [0, 1, 3, 4] rfl)
  · replace hf := o_f hf c_99
    refine lv_aload_n hx hb dX4_isWord_102 rfl (lv_at hl 0 rfl) ?_
    refine m_geta (k := 24) S hR (by decide) (by decide) q2550 dX4_isWord_103 ?_
    refine lv_iload_n hx hb dX4_isWord_106 rfl (lv_at hl 1 rfl) ?_
    refine lv_iconst (v := 4) hx hb dX4_isWord_107 (by decide) ?_
    refine lv_iadd hx hb dX4_isWord_108 ?_
    refine k_bind hf (fun v5 hv5 hf => ?_)
    refine m_iald S hR hv5 dX4_isWord_109 ?_
    refine lv_iload hx hb dX4_isWord_110 (lv_at hl 2 rfl) ?_
    refine lv_icmp_ne (tgt := 139) hx hb dX4_isWord_112 (by decide) (fun c_112 => ?_) (fun c_112 => ?_)
    · replace hf := o_f hf c_112
      refine lv_iconst (v := 0) hx hb dX4_isWord_139 (by decide) ?_
      obtain rfl := Option.some.inj hf
      exact m_iret S hR hS rfl dX4_isWord_140
    · replace hf := o_t hf c_112
      exact wJX4_isWord_115 S hf _ _ _ hR hS (lv_sub (l' := [(0, .ref (mo G)), (1, .int y1), (8, .int y8), (9, .int y9)]) hl [0, 1, 3, 4] rfl)
set_option maxHeartbeats 4000000 in
set_option maxRecDepth 100000 in
theorem wJX4_isWord_29 {l : Launch} {G : mG} {p : Program} {e : Env} {s : State} {m : MethodId} {args : Array Value} {below : List Frame} {meth : Method} {c : Code} {y1 : Int32} {y2 : Int32} {y3 : Int32} {y4 : Int32} {y5 : Int32} {y6 : Int32} {y7 : Int32} {y8 : Int32} {z0 : Int32} {σ : mS} {res : Int32} (S : mSt G p m c cX4_isWord 10 s args meth (Option.some Jvm.ClassFile.FieldType.boolean)) (hf : JX4_isWord_29 y1 y2 y3 y4 y5 y6 y7 y8 z0 σ = some res) : ∀ (H : Heap) (locs : List Loc) (ls : Array Slot), mR G σ H → va_S (mA G) s.heap H locs → lv_has ls 10 [(0, .ref (mo G)), (1, .int y1), (2, .int y2), (3, .int y3), (4, .int y4), (5, .int y5), (6, .int y6), (7, .int y7), (8, .int y8)] → W p l e (mRm 0 0) s m args below meth c H locs 0 0 (MQ below (mQ G (some (.int res)) σ) args s 0 0 (mA G)) (F0 m 29 ls [.int z0]) := by
  replace hf : (if (y2 - y1) = z0 then (mald σ 24 y1).bind (fun v1 => if v1 = y3 then (mald σ 24 (y1 + (1 : Int32))).bind (fun v2 => if v2 = y4 then (mald σ 24 (y1 + (2 : Int32))).bind (fun v3 => if v3 = y5 then if z0 < (4 : Int32) then JX4_isWord_96 y1 y7 y8 z0 σ else (mald σ 24 (y1 + (3 : Int32))).bind (fun v6 => if v6 = y6 then JX4_isWord_96 y1 y7 y8 z0 σ else some (0 : Int32)) else some (0 : Int32)) else some (0 : Int32)) else some (0 : Int32)) else some (0 : Int32)) = some res := hf
  obtain ⟨hx, hb, hml, hown, hts⟩ := S.1.1
  intro H locs ls hR hS hl
  refine lv_istore (lv' := [(9, .int z0), (0, .ref (mo G)), (1, .int y1), (2, .int y2), (3, .int y3), (4, .int y4), (5, .int y5), (6, .int y6), (7, .int y7), (8, .int y8)]) hx hb dX4_isWord_29 hl (by decide) rfl (fun ls hl => ?_)
  refine lv_iload_n hx hb dX4_isWord_31 rfl (lv_at hl 3 rfl) ?_
  refine lv_iload_n hx hb dX4_isWord_32 rfl (lv_at hl 2 rfl) ?_
  refine lv_isub hx hb dX4_isWord_33 ?_
  refine lv_iload hx hb dX4_isWord_34 (lv_at hl 0 rfl) ?_
  refine lv_icmp_ne (tgt := 75) hx hb dX4_isWord_36 (by decide) (fun c_36 => ?_) (fun c_36 => ?_)
  · replace hf := o_f hf c_36
    refine lv_iconst (v := 0) hx hb dX4_isWord_75 (by decide) ?_
    obtain rfl := Option.some.inj hf
    exact m_iret S hR hS rfl dX4_isWord_76
  · replace hf := o_t hf c_36
    refine lv_aload_n hx hb dX4_isWord_39 rfl (lv_at hl 1 rfl) ?_
    refine m_geta (k := 24) S hR (by decide) (by decide) q2550 dX4_isWord_40 ?_
    refine lv_iload_n hx hb dX4_isWord_43 rfl (lv_at hl 2 rfl) ?_
    refine k_bind hf (fun v1 hv1 hf => ?_)
    refine m_iald S hR hv1 dX4_isWord_44 ?_
    refine lv_iload_n hx hb dX4_isWord_45 rfl (lv_at hl 4 rfl) ?_
    refine lv_icmp_ne (tgt := 75) hx hb dX4_isWord_46 (by decide) (fun c_46 => ?_) (fun c_46 => ?_)
    · replace hf := o_f hf c_46
      refine lv_iconst (v := 0) hx hb dX4_isWord_75 (by decide) ?_
      obtain rfl := Option.some.inj hf
      exact m_iret S hR hS rfl dX4_isWord_76
    · replace hf := o_t hf c_46
      refine lv_aload_n hx hb dX4_isWord_49 rfl (lv_at hl 1 rfl) ?_
      refine m_geta (k := 24) S hR (by decide) (by decide) q2550 dX4_isWord_50 ?_
      refine lv_iload_n hx hb dX4_isWord_53 rfl (lv_at hl 2 rfl) ?_
      refine lv_iconst (v := 1) hx hb dX4_isWord_54 (by decide) ?_
      refine lv_iadd hx hb dX4_isWord_55 ?_
      refine k_bind hf (fun v2 hv2 hf => ?_)
      refine m_iald S hR hv2 dX4_isWord_56 ?_
      refine lv_iload hx hb dX4_isWord_57 (lv_at hl 5 rfl) ?_
      refine lv_icmp_ne (tgt := 75) hx hb dX4_isWord_59 (by decide) (fun c_59 => ?_) (fun c_59 => ?_)
      · replace hf := o_f hf c_59
        refine lv_iconst (v := 0) hx hb dX4_isWord_75 (by decide) ?_
        obtain rfl := Option.some.inj hf
        exact m_iret S hR hS rfl dX4_isWord_76
      · replace hf := o_t hf c_59
        refine lv_aload_n hx hb dX4_isWord_62 rfl (lv_at hl 1 rfl) ?_
        refine m_geta (k := 24) S hR (by decide) (by decide) q2550 dX4_isWord_63 ?_
        refine lv_iload_n hx hb dX4_isWord_66 rfl (lv_at hl 2 rfl) ?_
        refine lv_iconst (v := 2) hx hb dX4_isWord_67 (by decide) ?_
        refine lv_iadd hx hb dX4_isWord_68 ?_
        refine k_bind hf (fun v3 hv3 hf => ?_)
        refine m_iald S hR hv3 dX4_isWord_69 ?_
        refine lv_iload hx hb dX4_isWord_70 (lv_at hl 6 rfl) ?_
        refine lv_icmp_eq (tgt := 77) hx hb dX4_isWord_72 (by decide) (fun c_72 => ?_) (fun c_72 => ?_)
        · replace hf := o_t hf c_72
          refine lv_iload hx hb dX4_isWord_77 (lv_at hl 0 rfl) ?_
          refine lv_iconst (v := 4) hx hb dX4_isWord_79 (by decide) ?_
          refine lv_icmp_lt (tgt := 96) hx hb dX4_isWord_80 (by decide) (fun c_80 => ?_) (fun c_80 => ?_)
          · replace hf := o_t hf c_80
            exact wJX4_isWord_96 S hf _ _ _ hR hS (lv_sub (l' := [(0, .ref (mo G)), (1, .int y1), (7, .int y7), (8, .int y8), (9, .int z0)]) hl [1, 2, 8, 9, 0] rfl)
          · replace hf := o_f hf c_80
            refine lv_aload_n hx hb dX4_isWord_83 rfl (lv_at hl 1 rfl) ?_
            refine m_geta (k := 24) S hR (by decide) (by decide) q2550 dX4_isWord_84 ?_
            refine lv_iload_n hx hb dX4_isWord_87 rfl (lv_at hl 2 rfl) ?_
            refine lv_iconst (v := 3) hx hb dX4_isWord_88 (by decide) ?_
            refine lv_iadd hx hb dX4_isWord_89 ?_
            refine k_bind hf (fun v6 hv6 hf => ?_)
            refine m_iald S hR hv6 dX4_isWord_90 ?_
            refine lv_iload hx hb dX4_isWord_91 (lv_at hl 7 rfl) ?_
            refine lv_icmp_ne (tgt := 139) hx hb dX4_isWord_93 (by decide) (fun c_93 => ?_) (fun c_93 => ?_)
            · replace hf := o_f hf c_93
              refine lv_iconst (v := 0) hx hb dX4_isWord_139 (by decide) ?_
              obtain rfl := Option.some.inj hf
              exact m_iret S hR hS rfl dX4_isWord_140
            · replace hf := o_t hf c_93
              exact wJX4_isWord_96 S hf _ _ _ hR hS (lv_sub (l' := [(0, .ref (mo G)), (1, .int y1), (7, .int y7), (8, .int y8), (9, .int z0)]) hl [1, 2, 8, 9, 0] rfl)
        · replace hf := o_f hf c_72
          refine lv_iconst (v := 0) hx hb dX4_isWord_75 (by decide) ?_
          obtain rfl := Option.some.inj hf
          exact m_iret S hR hS rfl dX4_isWord_76
set_option maxHeartbeats 4000000 in
set_option maxRecDepth 100000 in
theorem met_X4_isWord {l : Launch} {G : mG} {x1 : Int32} {x2 : Int32} {x3 : Int32} {x4 : Int32} {x5 : Int32} {x6 : Int32} {x7 : Int32} {x8 : Int32} {σ : mS} {res : Int32} (hf : fX4_isWord x1 x2 x3 x4 x5 x6 x7 x8 σ = some res) : mMet l yX4_isWord cX4_isWord 10 (Option.some Jvm.ClassFile.FieldType.boolean) (mRm 0 0) G [.ref (mo G), .int x1, .int x2, .int x3, .int x4, .int x5, .int x6, .int x7, .int x8] σ (some (.int res)) σ := by
  replace hf : (if x6 = (0 : Int32) then JX4_isWord_29 x1 x2 x3 x4 x5 x6 x7 x8 (3 : Int32) σ else if x7 = (0 : Int32) then JX4_isWord_29 x1 x2 x3 x4 x5 x6 x7 x8 (4 : Int32) σ else if x8 = (0 : Int32) then JX4_isWord_29 x1 x2 x3 x4 x5 x6 x7 x8 (5 : Int32) σ else JX4_isWord_29 x1 x2 x3 x4 x5 x6 x7 x8 (6 : Int32) σ) = some res := hf
  refine m_start (by decide) rfl (Nat.le_of_ble_eq_true rfl) ?_
  intro p e s m args below meth c S hR hS ls hl
  obtain ⟨hx, hb, hml, hown, hts⟩ := S.1.1
  have hl : lv_has ls 10 [(0, .ref (mo G)), (1, .int x1), (2, .int x2), (3, .int x3), (4, .int x4), (5, .int x5), (6, .int x6), (7, .int x7), (8, .int x8)] := hl
  refine lv_iload hx hb dX4_isWord_0 (lv_at hl 6 rfl) ?_
  refine lv_if_ne (tgt := 9) hx hb dX4_isWord_2 (by decide) (fun c_2 => ?_) (fun c_2 => ?_)
  · replace hf := o_f hf c_2
    refine lv_iload hx hb dX4_isWord_9 (lv_at hl 7 rfl) ?_
    refine lv_if_ne (tgt := 18) hx hb dX4_isWord_11 (by decide) (fun c_11 => ?_) (fun c_11 => ?_)
    · replace hf := o_f hf c_11
      refine lv_iload hx hb dX4_isWord_18 (lv_at hl 8 rfl) ?_
      refine lv_if_ne (tgt := 27) hx hb dX4_isWord_20 (by decide) (fun c_20 => ?_) (fun c_20 => ?_)
      · replace hf := o_f hf c_20
        refine lv_bipush (v := 6) hx hb dX4_isWord_27 (by decide) ?_
        exact wJX4_isWord_29 S hf _ _ _ hR hS hl
      · replace hf := o_t hf c_20
        refine lv_iconst (v := 5) hx hb dX4_isWord_23 (by decide) ?_
        refine lv_goto (tgt := 29) hx hb dX4_isWord_24 (by decide) ?_
        exact wJX4_isWord_29 S hf _ _ _ hR hS hl
    · replace hf := o_t hf c_11
      refine lv_iconst (v := 4) hx hb dX4_isWord_14 (by decide) ?_
      refine lv_goto (tgt := 29) hx hb dX4_isWord_15 (by decide) ?_
      exact wJX4_isWord_29 S hf _ _ _ hR hS hl
  · replace hf := o_t hf c_2
    refine lv_iconst (v := 3) hx hb dX4_isWord_5 (by decide) ?_
    refine lv_goto (tgt := 29) hx hb dX4_isWord_6 (by decide) ?_
    exact wJX4_isWord_29 S hf _ _ _ hR hS hl

noncomputable def fX4_kindOf (x1 : Int32) (x2 : Int32) (σ : mS) : Option Int32 :=
  (fX4_isWord x1 x2 (112 : Int32) (111 : Int32) (105 : Int32) (110 : Int32) (116 : Int32) (0 : Int32) σ).bind (fun v1 => if v1 = (0 : Int32) then (fX4_isWord x1 x2 (116 : Int32) (111 : Int32) (108 : Int32) (108 : Int32) (0 : Int32) (0 : Int32) σ).bind (fun v2 => if v2 = (0 : Int32) then (fX4_isWord x1 x2 (99 : Int32) (108 : Int32) (117 : Int32) (98 : Int32) (0 : Int32) (0 : Int32) σ).bind (fun v3 => if v3 = (0 : Int32) then (fX4_isWord x1 x2 (107 : Int32) (101 : Int32) (101 : Int32) (112 : Int32) (101 : Int32) (114 : Int32) σ).bind (fun v4 => if v4 = (0 : Int32) then (fX4_isWord x1 x2 (103 : Int32) (117 : Int32) (105 : Int32) (108 : Int32) (100 : Int32) (0 : Int32) σ).bind (fun v5 => if v5 = (0 : Int32) then (fX4_isWord x1 x2 (119 : Int32) (97 : Int32) (114 : Int32) (100 : Int32) (101 : Int32) (110 : Int32) σ).bind (fun v6 => if v6 = (0 : Int32) then some (-1 : Int32) else some (5 : Int32)) else some (4 : Int32)) else some (3 : Int32)) else some (2 : Int32)) else some (1 : Int32)) else some (0 : Int32))
theorem wi_X4_kindOf : wInfV yX4_kindOf cX4_kindOf 3 (Option.some Jvm.ClassFile.FieldType.int) 2 := ⟨q2982, qs92, q116, q2983, (by decide +kernel), (by decide +kernel), (by decide +kernel)⟩
set_option maxHeartbeats 4000000 in
set_option maxRecDepth 100000 in
theorem met_X4_kindOf {l : Launch} {G : mG} {x1 : Int32} {x2 : Int32} {σ : mS} {res : Int32} (hf : fX4_kindOf x1 x2 σ = some res) : mMet l yX4_kindOf cX4_kindOf 3 (Option.some Jvm.ClassFile.FieldType.int) (mRm 1 29) G [.ref (mo G), .int x1, .int x2] σ (some (.int res)) σ := by
  replace hf : ((fX4_isWord x1 x2 (112 : Int32) (111 : Int32) (105 : Int32) (110 : Int32) (116 : Int32) (0 : Int32) σ).bind (fun v1 => if v1 = (0 : Int32) then (fX4_isWord x1 x2 (116 : Int32) (111 : Int32) (108 : Int32) (108 : Int32) (0 : Int32) (0 : Int32) σ).bind (fun v2 => if v2 = (0 : Int32) then (fX4_isWord x1 x2 (99 : Int32) (108 : Int32) (117 : Int32) (98 : Int32) (0 : Int32) (0 : Int32) σ).bind (fun v3 => if v3 = (0 : Int32) then (fX4_isWord x1 x2 (107 : Int32) (101 : Int32) (101 : Int32) (112 : Int32) (101 : Int32) (114 : Int32) σ).bind (fun v4 => if v4 = (0 : Int32) then (fX4_isWord x1 x2 (103 : Int32) (117 : Int32) (105 : Int32) (108 : Int32) (100 : Int32) (0 : Int32) σ).bind (fun v5 => if v5 = (0 : Int32) then (fX4_isWord x1 x2 (119 : Int32) (97 : Int32) (114 : Int32) (100 : Int32) (101 : Int32) (110 : Int32) σ).bind (fun v6 => if v6 = (0 : Int32) then some (-1 : Int32) else some (5 : Int32)) else some (4 : Int32)) else some (3 : Int32)) else some (2 : Int32)) else some (1 : Int32)) else some (0 : Int32))) = some res := hf
  refine m_start (by decide) rfl (Nat.le_of_ble_eq_true rfl) ?_
  intro p e s m args below meth c S hR hS ls hl
  obtain ⟨hx, hb, hml, hown, hts⟩ := S.1.1
  have hl : lv_has ls 3 [(0, .ref (mo G)), (1, .int x1), (2, .int x2)] := hl
  refine lv_aload_n hx hb dX4_kindOf_0 rfl (lv_at hl 0 rfl) ?_
  refine lv_iload_n hx hb dX4_kindOf_1 rfl (lv_at hl 1 rfl) ?_
  refine lv_iload_n hx hb dX4_kindOf_2 rfl (lv_at hl 2 rfl) ?_
  refine lv_bipush (v := 112) hx hb dX4_kindOf_3 (by decide) ?_
  refine lv_bipush (v := 111) hx hb dX4_kindOf_5 (by decide) ?_
  refine lv_bipush (v := 105) hx hb dX4_kindOf_7 (by decide) ?_
  refine lv_bipush (v := 110) hx hb dX4_kindOf_9 (by decide) ?_
  refine lv_bipush (v := 116) hx hb dX4_kindOf_11 (by decide) ?_
  refine lv_iconst (v := 0) hx hb dX4_kindOf_13 (by decide) ?_
  refine k_bind hf (fun v1 hv1 hf => ?_)
  refine m_call (As := [.int x1, .int x2, .int (112 : Int32), .int (111 : Int32), .int (105 : Int32), .int (110 : Int32), .int (116 : Int32), .int (0 : Int32)]) (rest := []) S hR hS (met_X4_isWord hv1) wi_X4_isWord rfl q2984 ⟨rfl, rfl⟩ ⟨Nat.le_of_ble_eq_true rfl, Nat.le_of_ble_eq_true rfl⟩ rfl hl.1 rfl (Nat.le_of_ble_eq_true rfl) dX4_kindOf_14 (fun H locs hR hS => ?_)
  refine lv_if_eq (tgt := 22) hx hb dX4_kindOf_17 (by decide) (fun c_17 => ?_) (fun c_17 => ?_)
  · replace hf := o_t hf c_17
    refine lv_aload_n hx hb dX4_kindOf_22 rfl (lv_at hl 0 rfl) ?_
    refine lv_iload_n hx hb dX4_kindOf_23 rfl (lv_at hl 1 rfl) ?_
    refine lv_iload_n hx hb dX4_kindOf_24 rfl (lv_at hl 2 rfl) ?_
    refine lv_bipush (v := 116) hx hb dX4_kindOf_25 (by decide) ?_
    refine lv_bipush (v := 111) hx hb dX4_kindOf_27 (by decide) ?_
    refine lv_bipush (v := 108) hx hb dX4_kindOf_29 (by decide) ?_
    refine lv_bipush (v := 108) hx hb dX4_kindOf_31 (by decide) ?_
    refine lv_iconst (v := 0) hx hb dX4_kindOf_33 (by decide) ?_
    refine lv_iconst (v := 0) hx hb dX4_kindOf_34 (by decide) ?_
    refine k_bind hf (fun v2 hv2 hf => ?_)
    refine m_call (As := [.int x1, .int x2, .int (116 : Int32), .int (111 : Int32), .int (108 : Int32), .int (108 : Int32), .int (0 : Int32), .int (0 : Int32)]) (rest := []) S hR hS (met_X4_isWord hv2) wi_X4_isWord rfl q2984 ⟨rfl, rfl⟩ ⟨Nat.le_of_ble_eq_true rfl, Nat.le_of_ble_eq_true rfl⟩ rfl hl.1 rfl (Nat.le_of_ble_eq_true rfl) dX4_kindOf_35 (fun H locs hR hS => ?_)
    refine lv_if_eq (tgt := 43) hx hb dX4_kindOf_38 (by decide) (fun c_38 => ?_) (fun c_38 => ?_)
    · replace hf := o_t hf c_38
      refine lv_aload_n hx hb dX4_kindOf_43 rfl (lv_at hl 0 rfl) ?_
      refine lv_iload_n hx hb dX4_kindOf_44 rfl (lv_at hl 1 rfl) ?_
      refine lv_iload_n hx hb dX4_kindOf_45 rfl (lv_at hl 2 rfl) ?_
      refine lv_bipush (v := 99) hx hb dX4_kindOf_46 (by decide) ?_
      refine lv_bipush (v := 108) hx hb dX4_kindOf_48 (by decide) ?_
      refine lv_bipush (v := 117) hx hb dX4_kindOf_50 (by decide) ?_
      refine lv_bipush (v := 98) hx hb dX4_kindOf_52 (by decide) ?_
      refine lv_iconst (v := 0) hx hb dX4_kindOf_54 (by decide) ?_
      refine lv_iconst (v := 0) hx hb dX4_kindOf_55 (by decide) ?_
      refine k_bind hf (fun v3 hv3 hf => ?_)
      refine m_call (As := [.int x1, .int x2, .int (99 : Int32), .int (108 : Int32), .int (117 : Int32), .int (98 : Int32), .int (0 : Int32), .int (0 : Int32)]) (rest := []) S hR hS (met_X4_isWord hv3) wi_X4_isWord rfl q2984 ⟨rfl, rfl⟩ ⟨Nat.le_of_ble_eq_true rfl, Nat.le_of_ble_eq_true rfl⟩ rfl hl.1 rfl (Nat.le_of_ble_eq_true rfl) dX4_kindOf_56 (fun H locs hR hS => ?_)
      refine lv_if_eq (tgt := 64) hx hb dX4_kindOf_59 (by decide) (fun c_59 => ?_) (fun c_59 => ?_)
      · replace hf := o_t hf c_59
        refine lv_aload_n hx hb dX4_kindOf_64 rfl (lv_at hl 0 rfl) ?_
        refine lv_iload_n hx hb dX4_kindOf_65 rfl (lv_at hl 1 rfl) ?_
        refine lv_iload_n hx hb dX4_kindOf_66 rfl (lv_at hl 2 rfl) ?_
        refine lv_bipush (v := 107) hx hb dX4_kindOf_67 (by decide) ?_
        refine lv_bipush (v := 101) hx hb dX4_kindOf_69 (by decide) ?_
        refine lv_bipush (v := 101) hx hb dX4_kindOf_71 (by decide) ?_
        refine lv_bipush (v := 112) hx hb dX4_kindOf_73 (by decide) ?_
        refine lv_bipush (v := 101) hx hb dX4_kindOf_75 (by decide) ?_
        refine lv_bipush (v := 114) hx hb dX4_kindOf_77 (by decide) ?_
        refine k_bind hf (fun v4 hv4 hf => ?_)
        refine m_call (As := [.int x1, .int x2, .int (107 : Int32), .int (101 : Int32), .int (101 : Int32), .int (112 : Int32), .int (101 : Int32), .int (114 : Int32)]) (rest := []) S hR hS (met_X4_isWord hv4) wi_X4_isWord rfl q2984 ⟨rfl, rfl⟩ ⟨Nat.le_of_ble_eq_true rfl, Nat.le_of_ble_eq_true rfl⟩ rfl hl.1 rfl (Nat.le_of_ble_eq_true rfl) dX4_kindOf_79 (fun H locs hR hS => ?_)
        refine lv_if_eq (tgt := 87) hx hb dX4_kindOf_82 (by decide) (fun c_82 => ?_) (fun c_82 => ?_)
        · replace hf := o_t hf c_82
          refine lv_aload_n hx hb dX4_kindOf_87 rfl (lv_at hl 0 rfl) ?_
          refine lv_iload_n hx hb dX4_kindOf_88 rfl (lv_at hl 1 rfl) ?_
          refine lv_iload_n hx hb dX4_kindOf_89 rfl (lv_at hl 2 rfl) ?_
          refine lv_bipush (v := 103) hx hb dX4_kindOf_90 (by decide) ?_
          refine lv_bipush (v := 117) hx hb dX4_kindOf_92 (by decide) ?_
          refine lv_bipush (v := 105) hx hb dX4_kindOf_94 (by decide) ?_
          refine lv_bipush (v := 108) hx hb dX4_kindOf_96 (by decide) ?_
          refine lv_bipush (v := 100) hx hb dX4_kindOf_98 (by decide) ?_
          refine lv_iconst (v := 0) hx hb dX4_kindOf_100 (by decide) ?_
          refine k_bind hf (fun v5 hv5 hf => ?_)
          refine m_call (As := [.int x1, .int x2, .int (103 : Int32), .int (117 : Int32), .int (105 : Int32), .int (108 : Int32), .int (100 : Int32), .int (0 : Int32)]) (rest := []) S hR hS (met_X4_isWord hv5) wi_X4_isWord rfl q2984 ⟨rfl, rfl⟩ ⟨Nat.le_of_ble_eq_true rfl, Nat.le_of_ble_eq_true rfl⟩ rfl hl.1 rfl (Nat.le_of_ble_eq_true rfl) dX4_kindOf_101 (fun H locs hR hS => ?_)
          refine lv_if_eq (tgt := 109) hx hb dX4_kindOf_104 (by decide) (fun c_104 => ?_) (fun c_104 => ?_)
          · replace hf := o_t hf c_104
            refine lv_aload_n hx hb dX4_kindOf_109 rfl (lv_at hl 0 rfl) ?_
            refine lv_iload_n hx hb dX4_kindOf_110 rfl (lv_at hl 1 rfl) ?_
            refine lv_iload_n hx hb dX4_kindOf_111 rfl (lv_at hl 2 rfl) ?_
            refine lv_bipush (v := 119) hx hb dX4_kindOf_112 (by decide) ?_
            refine lv_bipush (v := 97) hx hb dX4_kindOf_114 (by decide) ?_
            refine lv_bipush (v := 114) hx hb dX4_kindOf_116 (by decide) ?_
            refine lv_bipush (v := 100) hx hb dX4_kindOf_118 (by decide) ?_
            refine lv_bipush (v := 101) hx hb dX4_kindOf_120 (by decide) ?_
            refine lv_bipush (v := 110) hx hb dX4_kindOf_122 (by decide) ?_
            refine k_bind hf (fun v6 hv6 hf => ?_)
            refine m_call (As := [.int x1, .int x2, .int (119 : Int32), .int (97 : Int32), .int (114 : Int32), .int (100 : Int32), .int (101 : Int32), .int (110 : Int32)]) (rest := []) S hR hS (met_X4_isWord hv6) wi_X4_isWord rfl q2984 ⟨rfl, rfl⟩ ⟨Nat.le_of_ble_eq_true rfl, Nat.le_of_ble_eq_true rfl⟩ rfl hl.1 rfl (Nat.le_of_ble_eq_true rfl) dX4_kindOf_124 (fun H locs hR hS => ?_)
            refine lv_if_eq (tgt := 134) hx hb dX4_kindOf_127 (by decide) (fun c_127 => ?_) (fun c_127 => ?_)
            · replace hf := o_t hf c_127
              refine lv_iconst (v := -1) hx hb dX4_kindOf_134 (by decide) ?_
              obtain rfl := Option.some.inj hf
              exact m_iret S hR hS rfl dX4_kindOf_135
            · replace hf := o_f hf c_127
              refine lv_iconst (v := 5) hx hb dX4_kindOf_130 (by decide) ?_
              refine lv_goto (tgt := 135) hx hb dX4_kindOf_131 (by decide) ?_
              obtain rfl := Option.some.inj hf
              exact m_iret S hR hS rfl dX4_kindOf_135
          · replace hf := o_f hf c_104
            refine lv_iconst (v := 4) hx hb dX4_kindOf_107 (by decide) ?_
            obtain rfl := Option.some.inj hf
            exact m_iret S hR hS rfl dX4_kindOf_108
        · replace hf := o_f hf c_82
          refine lv_iconst (v := 3) hx hb dX4_kindOf_85 (by decide) ?_
          obtain rfl := Option.some.inj hf
          exact m_iret S hR hS rfl dX4_kindOf_86
      · replace hf := o_f hf c_59
        refine lv_iconst (v := 2) hx hb dX4_kindOf_62 (by decide) ?_
        obtain rfl := Option.some.inj hf
        exact m_iret S hR hS rfl dX4_kindOf_63
    · replace hf := o_f hf c_38
      refine lv_iconst (v := 1) hx hb dX4_kindOf_41 (by decide) ?_
      obtain rfl := Option.some.inj hf
      exact m_iret S hR hS rfl dX4_kindOf_42
  · replace hf := o_f hf c_17
    refine lv_iconst (v := 0) hx hb dX4_kindOf_20 (by decide) ?_
    obtain rfl := Option.some.inj hf
    exact m_iret S hR hS rfl dX4_kindOf_21

noncomputable def JX4_faultOf_230 (y1 : Int32) (y2 : Int32) (y3 : Int32) (y5 : Int32) (σ : mS) : Option ((Int32 × Int32 × Int32 × Int32 × mS) ⊕ ((Int32 × Int32 × mS) ⊕ (Int32 × mS) ⊕ (Int32 × mS) ⊕ (Int32 × mS) ⊕ (Int32 × mS) ⊕ (Int32 × mS))) :=
  if y3 = (20 : Int32) then some (Sum.inr (Sum.inr (Sum.inr (Sum.inr (Sum.inl (y1, σ)))))) else if (σ.1 30) = (60 : Int32) then some (Sum.inr (Sum.inr (Sum.inr (Sum.inr (Sum.inl (y1, σ)))))) else (mast σ 31 (σ.1 30) (0 : Int32)).bind (fun σ9 => (mast σ9 32 (σ9.1 30) (1 : Int32)).bind (fun σ10 => (mast σ10 33 (σ10.1 30) y2).bind (fun σ11 => (some (σ11.1 30)).bind (fun v12 => (mput σ11 30 ((σ11.1 30) + (1 : Int32))).bind (fun σ13 => some (Sum.inl (y5 + (1 : Int32), v12, y3 + (1 : Int32), (2 : Int32), σ13)))))))
noncomputable def LX4_faultOf_141 (y1 : Int32) (y2 : Int32) (y3 : Int32) (y4 : Int32) (σ : mS) (q : Int32) : Option ((Int32) ⊕ (Int32)) :=
  (fX4_isFrom q (48 : Int32) (57 : Int32) σ).bind (fun v14 => if v14 = (0 : Int32) then some (Sum.inr q) else some (Sum.inl (q + (1 : Int32))))
noncomputable def LX4_faultOf_72 (y1 : Int32) (y2 : Int32) (y3 : Int32) (y4 : Int32) (σ : mS) (q : Int32) : Option ((Int32) ⊕ (Int32)) :=
  (fX4_isFrom q (97 : Int32) (122 : Int32) σ).bind (fun v19 => if v19 = (0 : Int32) then some (Sum.inr q) else some (Sum.inl (q + (1 : Int32))))
noncomputable def LX4_faultOf_14 (q : Int32 × Int32 × Int32 × Int32 × mS) : Option ((Int32 × Int32 × Int32 × Int32 × mS) ⊕ ((Int32 × Int32 × mS) ⊕ (Int32 × mS) ⊕ (Int32 × mS) ⊕ (Int32 × mS) ⊕ (Int32 × mS) ⊕ (Int32 × mS))) :=
  (fX4_isFrom q.1 (32 : Int32) (32 : Int32) q.2.2.2.2).bind (fun v2 => if v2 = (0 : Int32) then if q.1 = (q.2.2.2.2.1 25) then some (Sum.inr (Sum.inl (q.1, q.2.2.1, q.2.2.2.2))) else (fX4_isFrom q.1 (97 : Int32) (122 : Int32) q.2.2.2.2).bind (fun v3 => if v3 = (0 : Int32) then (fX4_isFrom q.1 (48 : Int32) (57 : Int32) q.2.2.2.2).bind (fun v4 => if v4 = (0 : Int32) then (mald q.2.2.2.2 24 q.1).bind (fun v5 => if v5 = (40 : Int32) then if q.2.2.1 = (0 : Int32) then if (0 : Int32) < (q.2.2.2.2.1 30) then some (Sum.inr (Sum.inr (Sum.inr (Sum.inr (Sum.inl (q.1, q.2.2.2.2)))))) else JX4_faultOf_230 q.1 q.2.1 q.2.2.1 q.1 q.2.2.2.2 else JX4_faultOf_230 q.1 q.2.1 q.2.2.1 q.1 q.2.2.2.2 else (mald q.2.2.2.2 24 q.1).bind (fun v6 => if v6 = (41 : Int32) then if q.2.2.1 = (0 : Int32) then some (Sum.inr (Sum.inr (Sum.inr (Sum.inr (Sum.inr (Sum.inl (q.1, q.2.2.2.2))))))) else (mald q.2.2.2.2 33 q.2.1).bind (fun v7 => (some (q.2.2.1 + (-1 : Int32))).bind (fun v8 => some (Sum.inl (q.1 + (1 : Int32), v7, v8, (0 : Int32), q.2.2.2.2)))) else some (Sum.inr (Sum.inr (Sum.inr (Sum.inr (Sum.inr (Sum.inr (q.1, q.2.2.2.2))))))))) else (lpw (LX4_faultOf_141 q.1 q.2.1 q.2.2.1 q.2.2.2.1 q.2.2.2.2) q.1).bind (fun b15 => if q.2.2.2.1 < (1 : Int32) then some (Sum.inr (Sum.inr (Sum.inr (Sum.inl (q.1, q.2.2.2.2))))) else if (1 : Int32) < (b15 - q.1) then some (Sum.inr (Sum.inr (Sum.inr (Sum.inl (q.1, q.2.2.2.2))))) else (mald q.2.2.2.2 24 q.1).bind (fun v16 => if v16 = (48 : Int32) then some (Sum.inr (Sum.inr (Sum.inr (Sum.inl (q.1, q.2.2.2.2))))) else (mald q.2.2.2.2 24 q.1).bind (fun v17 => (mast q.2.2.2.2 32 q.2.1 (v17 - (48 : Int32))).bind (fun σ18 => some (Sum.inl (b15, q.2.1, q.2.2.1, (0 : Int32), σ18))))))) else (lpw (LX4_faultOf_72 q.1 q.2.1 q.2.2.1 q.2.2.2.1 q.2.2.2.2) q.1).bind (fun b20 => if q.2.2.2.1 < (2 : Int32) then some (Sum.inr (Sum.inr (Sum.inl (q.1, q.2.2.2.2)))) else (fX4_kindOf q.1 b20 q.2.2.2.2).bind (fun v21 => if v21 = (-1 : Int32) then some (Sum.inr (Sum.inr (Sum.inl (q.1, q.2.2.2.2)))) else (fX4_kindOf q.1 b20 q.2.2.2.2).bind (fun v22 => (mast q.2.2.2.2 31 q.2.1 v22).bind (fun σ23 => some (Sum.inl (b20, q.2.1, q.2.2.1, (1 : Int32), σ23))))))) else some (Sum.inl (q.1 + (1 : Int32), q.2.1, q.2.2.1, q.2.2.2.1, q.2.2.2.2)))
noncomputable def fX4_faultOf (σ : mS) : Option (Int32 × mS) :=
  (mput σ 30 (0 : Int32)).bind (fun σ1 => (lpw (LX4_faultOf_14) ((0 : Int32), (-1 : Int32), (0 : Int32), (0 : Int32), σ1)).bind ((fun e => Sum.elim (fun b25 => if (b25.2.2.1 30) ≤ (0 : Int32) then some (b25.1, b25.2.2) else if b25.2.1 = (0 : Int32) then some ((-1 : Int32), b25.2.2) else some (b25.1, b25.2.2)) (fun e => Sum.elim (fun b26 => some (b26.1, b26.2)) (fun e => Sum.elim (fun b27 => some (b27.1, b27.2)) (fun e => Sum.elim (fun b28 => some (b28.1, b28.2)) (fun e => Sum.elim (fun b29 => some (b29.1, b29.2)) (fun b30 => some (b30.1, b30.2)) e) e) e) e) e)))
theorem wi_X4_faultOf : wInfV yX4_faultOf cX4_faultOf 6 (Option.some Jvm.ClassFile.FieldType.int) 0 := ⟨q2974, qs90, q116, q2975, (by decide +kernel), (by decide +kernel), (by decide +kernel)⟩
set_option maxHeartbeats 4000000 in
set_option maxRecDepth 100000 in
theorem wJX4_faultOf_230 {l : Launch} {G : mG} {p : Program} {e : Env} {s : State} {m : MethodId} {args : Array Value} {below : List Frame} {meth : Method} {c : Code} {Q : State → Prop} {y1 : Int32} {y2 : Int32} {y3 : Int32} {y5 : Int32} {σ : mS} {res : (Int32 × Int32 × Int32 × Int32 × mS) ⊕ ((Int32 × Int32 × mS) ⊕ (Int32 × mS) ⊕ (Int32 × mS) ⊕ (Int32 × mS) ⊕ (Int32 × mS) ⊕ (Int32 × mS))} (S : mSt G p m c cX4_faultOf 6 s args meth (Option.some Jvm.ClassFile.FieldType.int)) (hf : JX4_faultOf_230 y1 y2 y3 y5 σ = some res) (hK : ∀ q, res = Sum.inl q → (∀ (H : Heap) (locs : List Loc) (ls : Array Slot), mR G q.2.2.2.2 H → va_S (mA G) s.heap H locs → lv_has ls 6 [(0, .ref (mo G)), (1, .int q.1), (2, .int q.2.1), (3, .int q.2.2.1), (4, .int q.2.2.2.1)] → W p l e (mRm 2 51) s m args below meth c H locs 0 0 Q (F0 m 14 ls []))) (hE40 : ∀ b, res = Sum.inr (Sum.inl b) → (∀ (H : Heap) (locs : List Loc) (ls : Array Slot), mR G b.2.2 H → va_S (mA G) s.heap H locs → lv_has ls 6 [(0, .ref (mo G)), (1, .int b.1), (3, .int b.2.1)] → W p l e (mRm 2 51) s m args below meth c H locs 0 0 Q (F0 m 40 ls []))) (hE108 : ∀ b, res = Sum.inr (Sum.inr (Sum.inl b)) → (∀ (H : Heap) (locs : List Loc) (ls : Array Slot), mR G b.2 H → va_S (mA G) s.heap H locs → lv_has ls 6 [(0, .ref (mo G)), (1, .int b.1)] → W p l e (mRm 2 51) s m args below meth c H locs 0 0 Q (F0 m 108 ls []))) (hE185 : ∀ b, res = Sum.inr (Sum.inr (Sum.inr (Sum.inl b))) → (∀ (H : Heap) (locs : List Loc) (ls : Array Slot), mR G b.2 H → va_S (mA G) s.heap H locs → lv_has ls 6 [(0, .ref (mo G)), (1, .int b.1)] → W p l e (mRm 2 51) s m args below meth c H locs 0 0 Q (F0 m 185 ls []))) (hE245 : ∀ b, res = Sum.inr (Sum.inr (Sum.inr (Sum.inr (Sum.inl b)))) → (∀ (H : Heap) (locs : List Loc) (ls : Array Slot), mR G b.2 H → va_S (mA G) s.heap H locs → lv_has ls 6 [(0, .ref (mo G)), (1, .int b.1)] → W p l e (mRm 2 51) s m args below meth c H locs 0 0 Q (F0 m 245 ls []))) (hE319 : ∀ b, res = Sum.inr (Sum.inr (Sum.inr (Sum.inr (Sum.inr (Sum.inl b))))) → (∀ (H : Heap) (locs : List Loc) (ls : Array Slot), mR G b.2 H → va_S (mA G) s.heap H locs → lv_has ls 6 [(0, .ref (mo G)), (1, .int b.1)] → W p l e (mRm 2 51) s m args below meth c H locs 0 0 Q (F0 m 319 ls []))) (hE340 : ∀ b, res = Sum.inr (Sum.inr (Sum.inr (Sum.inr (Sum.inr (Sum.inr b))))) → (∀ (H : Heap) (locs : List Loc) (ls : Array Slot), mR G b.2 H → va_S (mA G) s.heap H locs → lv_has ls 6 [(0, .ref (mo G)), (1, .int b.1)] → W p l e (mRm 2 51) s m args below meth c H locs 0 0 Q (F0 m 340 ls []))) : ∀ (H : Heap) (locs : List Loc) (ls : Array Slot), mR G σ H → va_S (mA G) s.heap H locs → lv_has ls 6 [(0, .ref (mo G)), (1, .int y1), (2, .int y2), (3, .int y3), (5, .int y5)] → W p l e (mRm 2 51) s m args below meth c H locs 0 0 Q (F0 m 230 ls []) := by
  replace hf : (if y3 = (20 : Int32) then some (Sum.inr (Sum.inr (Sum.inr (Sum.inr (Sum.inl (y1, σ)))))) else if (σ.1 30) = (60 : Int32) then some (Sum.inr (Sum.inr (Sum.inr (Sum.inr (Sum.inl (y1, σ)))))) else (mast σ 31 (σ.1 30) (0 : Int32)).bind (fun σ9 => (mast σ9 32 (σ9.1 30) (1 : Int32)).bind (fun σ10 => (mast σ10 33 (σ10.1 30) y2).bind (fun σ11 => (some (σ11.1 30)).bind (fun v12 => (mput σ11 30 ((σ11.1 30) + (1 : Int32))).bind (fun σ13 => some (Sum.inl (y5 + (1 : Int32), v12, y3 + (1 : Int32), (2 : Int32), σ13)))))))) = some res := hf
  obtain ⟨hx, hb, hml, hown, hts⟩ := S.1.1
  intro H locs ls hR hS hl
  refine lv_iload_n hx hb dX4_faultOf_230 rfl (lv_at hl 3 rfl) ?_
  refine lv_bipush (v := 20) hx hb dX4_faultOf_231 (by decide) ?_
  refine lv_icmp_eq (tgt := 245) hx hb dX4_faultOf_233 (by decide) (fun c_233 => ?_) (fun c_233 => ?_)
  · replace hf := o_t hf c_233
    exact hE245 _ (Option.some.inj hf).symm _ _ _ hR hS (lv_sub (l' := [(0, .ref (mo G)), (1, .int y1)]) hl [0, 1] rfl)
  · replace hf := o_f hf c_233
    refine lv_aload_n hx hb dX4_faultOf_236 rfl (lv_at hl 0 rfl) ?_
    refine m_geti (k := 30) S hR (by decide) (by decide) q2556 dX4_faultOf_237 ?_
    refine lv_bipush (v := 60) hx hb dX4_faultOf_240 (by decide) ?_
    refine lv_icmp_ne (tgt := 247) hx hb dX4_faultOf_242 (by decide) (fun c_242 => ?_) (fun c_242 => ?_)
    · replace hf := o_f hf c_242
      refine lv_aload_n hx hb dX4_faultOf_247 rfl (lv_at hl 0 rfl) ?_
      refine m_geta (k := 31) S hR (by decide) (by decide) q2557 dX4_faultOf_248 ?_
      refine lv_aload_n hx hb dX4_faultOf_251 rfl (lv_at hl 0 rfl) ?_
      refine m_geti (k := 30) S hR (by decide) (by decide) q2556 dX4_faultOf_252 ?_
      refine lv_iconst (v := 0) hx hb dX4_faultOf_255 (by decide) ?_
      refine k_bind hf (fun σ9 hσ9 hf => ?_)
      refine m_iast S hR hS hσ9 dX4_faultOf_256 (fun H locs hR hS => ?_)
      refine lv_aload_n hx hb dX4_faultOf_257 rfl (lv_at hl 0 rfl) ?_
      refine m_geta (k := 32) S hR (by decide) (by decide) q2558 dX4_faultOf_258 ?_
      refine lv_aload_n hx hb dX4_faultOf_261 rfl (lv_at hl 0 rfl) ?_
      refine m_geti (k := 30) S hR (by decide) (by decide) q2556 dX4_faultOf_262 ?_
      refine lv_iconst (v := 1) hx hb dX4_faultOf_265 (by decide) ?_
      refine k_bind hf (fun σ10 hσ10 hf => ?_)
      refine m_iast S hR hS hσ10 dX4_faultOf_266 (fun H locs hR hS => ?_)
      refine lv_aload_n hx hb dX4_faultOf_267 rfl (lv_at hl 0 rfl) ?_
      refine m_geta (k := 33) S hR (by decide) (by decide) q2559 dX4_faultOf_268 ?_
      refine lv_aload_n hx hb dX4_faultOf_271 rfl (lv_at hl 0 rfl) ?_
      refine m_geti (k := 30) S hR (by decide) (by decide) q2556 dX4_faultOf_272 ?_
      refine lv_iload_n hx hb dX4_faultOf_275 rfl (lv_at hl 2 rfl) ?_
      refine k_bind hf (fun σ11 hσ11 hf => ?_)
      refine m_iast S hR hS hσ11 dX4_faultOf_276 (fun H locs hR hS => ?_)
      refine lv_aload_n hx hb dX4_faultOf_277 rfl (lv_at hl 0 rfl) ?_
      refine m_geti (k := 30) S hR (by decide) (by decide) q2556 dX4_faultOf_278 ?_
      refine k_bind hf (fun v12 hv12 hf => ?_)
      refine m_nmi hv12 ?_
      refine lv_istore_n (lv' := [(2, .int v12), (0, .ref (mo G)), (1, .int y1), (3, .int y3), (5, .int y5)]) hx hb dX4_faultOf_281 rfl hl (by decide) rfl (fun ls hl => ?_)
      refine lv_aload_n hx hb dX4_faultOf_282 rfl (lv_at hl 1 rfl) ?_
      refine lv_dup hx hb dX4_faultOf_283 rfl ?_
      refine m_geti (k := 30) S hR (by decide) (by decide) q2556 dX4_faultOf_284 ?_
      refine lv_iconst (v := 1) hx hb dX4_faultOf_287 (by decide) ?_
      refine lv_iadd hx hb dX4_faultOf_288 ?_
      refine k_bind hf (fun σ13 hσ13 hf => ?_)
      refine m_puti (k := 30) S hR hS hσ13 (by decide) (by decide) rfl rfl rfl rfl q2556 dX4_faultOf_289 (fun H locs hR hS => ?_)
      refine lv_iinc (lv' := [(3, .int (y3 + (1 : Int32))), (2, .int v12), (0, .ref (mo G)), (1, .int y1), (5, .int y5)]) hx hb dX4_faultOf_292 hl (k := 3) rfl (m_inc (by decide)) (by decide) rfl (fun ls hl => ?_)
      refine lv_iconst (v := 2) hx hb dX4_faultOf_295 (by decide) ?_
      refine lv_istore (lv' := [(4, .int (2 : Int32)), (3, .int (y3 + (1 : Int32))), (2, .int v12), (0, .ref (mo G)), (1, .int y1), (5, .int y5)]) hx hb dX4_faultOf_296 hl (by decide) rfl (fun ls hl => ?_)
      refine lv_iinc (lv' := [(5, .int (y5 + (1 : Int32))), (4, .int (2 : Int32)), (3, .int (y3 + (1 : Int32))), (2, .int v12), (0, .ref (mo G)), (1, .int y1)]) hx hb dX4_faultOf_298 hl (k := 5) rfl (m_inc (by decide)) (by decide) rfl (fun ls hl => ?_)
      refine lv_goto (tgt := 342) hx hb dX4_faultOf_301 (by decide) ?_
      refine lv_iload hx hb dX4_faultOf_342 (lv_at hl 0 rfl) ?_
      refine lv_istore_n (lv' := [(1, .int (y5 + (1 : Int32))), (5, .int (y5 + (1 : Int32))), (4, .int (2 : Int32)), (3, .int (y3 + (1 : Int32))), (2, .int v12), (0, .ref (mo G))]) hx hb dX4_faultOf_344 rfl hl (by decide) rfl (fun ls hl => ?_)
      refine lv_goto (tgt := 14) hx hb dX4_faultOf_345 (by decide) ?_
      exact hK _ (Option.some.inj hf).symm _ _ _ hR hS (lv_sub (l' := [(0, .ref (mo G)), (1, .int (y5 + (1 : Int32))), (2, .int v12), (3, .int (y3 + (1 : Int32))), (4, .int (2 : Int32))]) hl [5, 0, 4, 3, 2] rfl)
    · replace hf := o_t hf c_242
      exact hE245 _ (Option.some.inj hf).symm _ _ _ hR hS (lv_sub (l' := [(0, .ref (mo G)), (1, .int y1)]) hl [0, 1] rfl)
set_option maxHeartbeats 4000000 in
set_option maxRecDepth 100000 in
theorem wbLX4_faultOf_141 {l : Launch} {G : mG} {p : Program} {e : Env} {s : State} {m : MethodId} {args : Array Value} {below : List Frame} {meth : Method} {c : Code} {Q : State → Prop} {y1 : Int32} {y2 : Int32} {y3 : Int32} {y4 : Int32} {σ : mS} {q : Int32} {res : (Int32) ⊕ (Int32)} (S : mSt G p m c cX4_faultOf 6 s args meth (Option.some Jvm.ClassFile.FieldType.int)) (hf : LX4_faultOf_141 y1 y2 y3 y4 σ q = some res) (hK : ∀ q, res = Sum.inl q → (∀ (H : Heap) (locs : List Loc) (ls : Array Slot), mR G σ H → va_S (mA G) s.heap H locs → lv_has ls 6 [(0, .ref (mo G)), (1, .int y1), (2, .int y2), (3, .int y3), (4, .int y4), (5, .int q)] → W p l e (mRm 2 51) s m args below meth c H locs 0 0 Q (F0 m 141 ls []))) (hE160 : ∀ b, res = Sum.inr b → (∀ (H : Heap) (locs : List Loc) (ls : Array Slot), mR G σ H → va_S (mA G) s.heap H locs → lv_has ls 6 [(0, .ref (mo G)), (1, .int y1), (2, .int y2), (3, .int y3), (4, .int y4), (5, .int b)] → W p l e (mRm 2 51) s m args below meth c H locs 0 0 Q (F0 m 160 ls []))) : (∀ (H : Heap) (locs : List Loc) (ls : Array Slot), mR G σ H → va_S (mA G) s.heap H locs → lv_has ls 6 [(0, .ref (mo G)), (1, .int y1), (2, .int y2), (3, .int y3), (4, .int y4), (5, .int q)] → W p l e (mRm 2 51) s m args below meth c H locs 0 0 Q (F0 m 141 ls [])) := by
  replace hf : ((fX4_isFrom q (48 : Int32) (57 : Int32) σ).bind (fun v14 => if v14 = (0 : Int32) then some (Sum.inr q) else some (Sum.inl (q + (1 : Int32))))) = some res := hf
  obtain ⟨hx, hb, hml, hown, hts⟩ := S.1.1
  intro H locs ls hR hS hl
  refine lv_aload_n hx hb dX4_faultOf_141 rfl (lv_at hl 0 rfl) ?_
  refine lv_iload hx hb dX4_faultOf_142 (lv_at hl 5 rfl) ?_
  refine lv_bipush (v := 48) hx hb dX4_faultOf_144 (by decide) ?_
  refine lv_bipush (v := 57) hx hb dX4_faultOf_146 (by decide) ?_
  refine k_bind hf (fun v14 hv14 hf => ?_)
  refine m_call (As := [.int q, .int (48 : Int32), .int (57 : Int32)]) (rest := []) S hR hS (met_X4_isFrom hv14) wi_X4_isFrom rfl q2976 ⟨rfl, rfl⟩ ⟨Nat.le_of_ble_eq_true rfl, Nat.le_of_ble_eq_true rfl⟩ rfl hl.1 rfl (Nat.le_of_ble_eq_true rfl) dX4_faultOf_148 (fun H locs hR hS => ?_)
  refine lv_if_eq (tgt := 160) hx hb dX4_faultOf_151 (by decide) (fun c_151 => ?_) (fun c_151 => ?_)
  · replace hf := o_t hf c_151
    exact hE160 _ (Option.some.inj hf).symm _ _ _ hR hS hl
  · replace hf := o_f hf c_151
    refine lv_iinc (lv' := [(5, .int (q + (1 : Int32))), (0, .ref (mo G)), (1, .int y1), (2, .int y2), (3, .int y3), (4, .int y4)]) hx hb dX4_faultOf_154 hl (k := 5) rfl (m_inc (by decide)) (by decide) rfl (fun ls hl => ?_)
    refine lv_goto (tgt := 141) hx hb dX4_faultOf_157 (by decide) ?_
    exact hK _ (Option.some.inj hf).symm _ _ _ hR hS (lv_sub (l' := [(0, .ref (mo G)), (1, .int y1), (2, .int y2), (3, .int y3), (4, .int y4), (5, .int (q + (1 : Int32)))]) hl [1, 2, 3, 4, 5, 0] rfl)
set_option maxHeartbeats 4000000 in
set_option maxRecDepth 100000 in
theorem wLX4_faultOf_141 {l : Launch} {G : mG} {p : Program} {e : Env} {s : State} {m : MethodId} {args : Array Value} {below : List Frame} {meth : Method} {c : Code} {Q : State → Prop} {y1 : Int32} {y2 : Int32} {y3 : Int32} {y4 : Int32} {σ : mS} {q : Int32} {res : Int32} (S : mSt G p m c cX4_faultOf 6 s args meth (Option.some Jvm.ClassFile.FieldType.int)) (h : lpw (LX4_faultOf_141 y1 y2 y3 y4 σ) q = some res) (hE160 : ∀ b, res = b → (∀ (H : Heap) (locs : List Loc) (ls : Array Slot), mR G σ H → va_S (mA G) s.heap H locs → lv_has ls 6 [(0, .ref (mo G)), (1, .int y1), (2, .int y2), (3, .int y3), (4, .int y4), (5, .int b)] → W p l e (mRm 2 51) s m args below meth c H locs 0 0 Q (F0 m 160 ls []))) : (∀ (H : Heap) (locs : List Loc) (ls : Array Slot), mR G σ H → va_S (mA G) s.heap H locs → lv_has ls 6 [(0, .ref (mo G)), (1, .int y1), (2, .int y2), (3, .int y3), (4, .int y4), (5, .int q)] → W p l e (mRm 2 51) s m args below meth c H locs 0 0 Q (F0 m 141 ls [])) :=
  lpw_go _ (fun q => (∀ (H : Heap) (locs : List Loc) (ls : Array Slot), mR G σ H → va_S (mA G) s.heap H locs → lv_has ls 6 [(0, .ref (mo G)), (1, .int y1), (2, .int y2), (3, .int y3), (4, .int y4), (5, .int q)] → W p l e (mRm 2 51) s m args below meth c H locs 0 0 Q (F0 m 141 ls []))) (fun b0 => (∀ b, b0 = b → (∀ (H : Heap) (locs : List Loc) (ls : Array Slot), mR G σ H → va_S (mA G) s.heap H locs → lv_has ls 6 [(0, .ref (mo G)), (1, .int y1), (2, .int y2), (3, .int y3), (4, .int y4), (5, .int b)] → W p l e (mRm 2 51) s m args below meth c H locs 0 0 Q (F0 m 160 ls [])))) (fun q x hf hK hX => wbLX4_faultOf_141 S hf hK (fun b eb => (hX _ eb) b rfl)) q res h hE160
set_option maxHeartbeats 4000000 in
set_option maxRecDepth 100000 in
theorem wbLX4_faultOf_72 {l : Launch} {G : mG} {p : Program} {e : Env} {s : State} {m : MethodId} {args : Array Value} {below : List Frame} {meth : Method} {c : Code} {Q : State → Prop} {y1 : Int32} {y2 : Int32} {y3 : Int32} {y4 : Int32} {σ : mS} {q : Int32} {res : (Int32) ⊕ (Int32)} (S : mSt G p m c cX4_faultOf 6 s args meth (Option.some Jvm.ClassFile.FieldType.int)) (hf : LX4_faultOf_72 y1 y2 y3 y4 σ q = some res) (hK : ∀ q, res = Sum.inl q → (∀ (H : Heap) (locs : List Loc) (ls : Array Slot), mR G σ H → va_S (mA G) s.heap H locs → lv_has ls 6 [(0, .ref (mo G)), (1, .int y1), (2, .int y2), (3, .int y3), (4, .int y4), (5, .int q)] → W p l e (mRm 2 51) s m args below meth c H locs 0 0 Q (F0 m 72 ls []))) (hE91 : ∀ b, res = Sum.inr b → (∀ (H : Heap) (locs : List Loc) (ls : Array Slot), mR G σ H → va_S (mA G) s.heap H locs → lv_has ls 6 [(0, .ref (mo G)), (1, .int y1), (2, .int y2), (3, .int y3), (4, .int y4), (5, .int b)] → W p l e (mRm 2 51) s m args below meth c H locs 0 0 Q (F0 m 91 ls []))) : (∀ (H : Heap) (locs : List Loc) (ls : Array Slot), mR G σ H → va_S (mA G) s.heap H locs → lv_has ls 6 [(0, .ref (mo G)), (1, .int y1), (2, .int y2), (3, .int y3), (4, .int y4), (5, .int q)] → W p l e (mRm 2 51) s m args below meth c H locs 0 0 Q (F0 m 72 ls [])) := by
  replace hf : ((fX4_isFrom q (97 : Int32) (122 : Int32) σ).bind (fun v19 => if v19 = (0 : Int32) then some (Sum.inr q) else some (Sum.inl (q + (1 : Int32))))) = some res := hf
  obtain ⟨hx, hb, hml, hown, hts⟩ := S.1.1
  intro H locs ls hR hS hl
  refine lv_aload_n hx hb dX4_faultOf_72 rfl (lv_at hl 0 rfl) ?_
  refine lv_iload hx hb dX4_faultOf_73 (lv_at hl 5 rfl) ?_
  refine lv_bipush (v := 97) hx hb dX4_faultOf_75 (by decide) ?_
  refine lv_bipush (v := 122) hx hb dX4_faultOf_77 (by decide) ?_
  refine k_bind hf (fun v19 hv19 hf => ?_)
  refine m_call (As := [.int q, .int (97 : Int32), .int (122 : Int32)]) (rest := []) S hR hS (met_X4_isFrom hv19) wi_X4_isFrom rfl q2976 ⟨rfl, rfl⟩ ⟨Nat.le_of_ble_eq_true rfl, Nat.le_of_ble_eq_true rfl⟩ rfl hl.1 rfl (Nat.le_of_ble_eq_true rfl) dX4_faultOf_79 (fun H locs hR hS => ?_)
  refine lv_if_eq (tgt := 91) hx hb dX4_faultOf_82 (by decide) (fun c_82 => ?_) (fun c_82 => ?_)
  · replace hf := o_t hf c_82
    exact hE91 _ (Option.some.inj hf).symm _ _ _ hR hS hl
  · replace hf := o_f hf c_82
    refine lv_iinc (lv' := [(5, .int (q + (1 : Int32))), (0, .ref (mo G)), (1, .int y1), (2, .int y2), (3, .int y3), (4, .int y4)]) hx hb dX4_faultOf_85 hl (k := 5) rfl (m_inc (by decide)) (by decide) rfl (fun ls hl => ?_)
    refine lv_goto (tgt := 72) hx hb dX4_faultOf_88 (by decide) ?_
    exact hK _ (Option.some.inj hf).symm _ _ _ hR hS (lv_sub (l' := [(0, .ref (mo G)), (1, .int y1), (2, .int y2), (3, .int y3), (4, .int y4), (5, .int (q + (1 : Int32)))]) hl [1, 2, 3, 4, 5, 0] rfl)
set_option maxHeartbeats 4000000 in
set_option maxRecDepth 100000 in
theorem wLX4_faultOf_72 {l : Launch} {G : mG} {p : Program} {e : Env} {s : State} {m : MethodId} {args : Array Value} {below : List Frame} {meth : Method} {c : Code} {Q : State → Prop} {y1 : Int32} {y2 : Int32} {y3 : Int32} {y4 : Int32} {σ : mS} {q : Int32} {res : Int32} (S : mSt G p m c cX4_faultOf 6 s args meth (Option.some Jvm.ClassFile.FieldType.int)) (h : lpw (LX4_faultOf_72 y1 y2 y3 y4 σ) q = some res) (hE91 : ∀ b, res = b → (∀ (H : Heap) (locs : List Loc) (ls : Array Slot), mR G σ H → va_S (mA G) s.heap H locs → lv_has ls 6 [(0, .ref (mo G)), (1, .int y1), (2, .int y2), (3, .int y3), (4, .int y4), (5, .int b)] → W p l e (mRm 2 51) s m args below meth c H locs 0 0 Q (F0 m 91 ls []))) : (∀ (H : Heap) (locs : List Loc) (ls : Array Slot), mR G σ H → va_S (mA G) s.heap H locs → lv_has ls 6 [(0, .ref (mo G)), (1, .int y1), (2, .int y2), (3, .int y3), (4, .int y4), (5, .int q)] → W p l e (mRm 2 51) s m args below meth c H locs 0 0 Q (F0 m 72 ls [])) :=
  lpw_go _ (fun q => (∀ (H : Heap) (locs : List Loc) (ls : Array Slot), mR G σ H → va_S (mA G) s.heap H locs → lv_has ls 6 [(0, .ref (mo G)), (1, .int y1), (2, .int y2), (3, .int y3), (4, .int y4), (5, .int q)] → W p l e (mRm 2 51) s m args below meth c H locs 0 0 Q (F0 m 72 ls []))) (fun b0 => (∀ b, b0 = b → (∀ (H : Heap) (locs : List Loc) (ls : Array Slot), mR G σ H → va_S (mA G) s.heap H locs → lv_has ls 6 [(0, .ref (mo G)), (1, .int y1), (2, .int y2), (3, .int y3), (4, .int y4), (5, .int b)] → W p l e (mRm 2 51) s m args below meth c H locs 0 0 Q (F0 m 91 ls [])))) (fun q x hf hK hX => wbLX4_faultOf_72 S hf hK (fun b eb => (hX _ eb) b rfl)) q res h hE91
set_option maxHeartbeats 4000000 in
set_option maxRecDepth 100000 in
theorem wbLX4_faultOf_14 {l : Launch} {G : mG} {p : Program} {e : Env} {s : State} {m : MethodId} {args : Array Value} {below : List Frame} {meth : Method} {c : Code} {Q : State → Prop} {q : Int32 × Int32 × Int32 × Int32 × mS} {res : (Int32 × Int32 × Int32 × Int32 × mS) ⊕ ((Int32 × Int32 × mS) ⊕ (Int32 × mS) ⊕ (Int32 × mS) ⊕ (Int32 × mS) ⊕ (Int32 × mS) ⊕ (Int32 × mS))} (S : mSt G p m c cX4_faultOf 6 s args meth (Option.some Jvm.ClassFile.FieldType.int)) (hf : LX4_faultOf_14 q = some res) (hK : ∀ q, res = Sum.inl q → (∀ (H : Heap) (locs : List Loc) (ls : Array Slot), mR G q.2.2.2.2 H → va_S (mA G) s.heap H locs → lv_has ls 6 [(0, .ref (mo G)), (1, .int q.1), (2, .int q.2.1), (3, .int q.2.2.1), (4, .int q.2.2.2.1)] → W p l e (mRm 2 51) s m args below meth c H locs 0 0 Q (F0 m 14 ls []))) (hE40 : ∀ b, res = Sum.inr (Sum.inl b) → (∀ (H : Heap) (locs : List Loc) (ls : Array Slot), mR G b.2.2 H → va_S (mA G) s.heap H locs → lv_has ls 6 [(0, .ref (mo G)), (1, .int b.1), (3, .int b.2.1)] → W p l e (mRm 2 51) s m args below meth c H locs 0 0 Q (F0 m 40 ls []))) (hE108 : ∀ b, res = Sum.inr (Sum.inr (Sum.inl b)) → (∀ (H : Heap) (locs : List Loc) (ls : Array Slot), mR G b.2 H → va_S (mA G) s.heap H locs → lv_has ls 6 [(0, .ref (mo G)), (1, .int b.1)] → W p l e (mRm 2 51) s m args below meth c H locs 0 0 Q (F0 m 108 ls []))) (hE185 : ∀ b, res = Sum.inr (Sum.inr (Sum.inr (Sum.inl b))) → (∀ (H : Heap) (locs : List Loc) (ls : Array Slot), mR G b.2 H → va_S (mA G) s.heap H locs → lv_has ls 6 [(0, .ref (mo G)), (1, .int b.1)] → W p l e (mRm 2 51) s m args below meth c H locs 0 0 Q (F0 m 185 ls []))) (hE245 : ∀ b, res = Sum.inr (Sum.inr (Sum.inr (Sum.inr (Sum.inl b)))) → (∀ (H : Heap) (locs : List Loc) (ls : Array Slot), mR G b.2 H → va_S (mA G) s.heap H locs → lv_has ls 6 [(0, .ref (mo G)), (1, .int b.1)] → W p l e (mRm 2 51) s m args below meth c H locs 0 0 Q (F0 m 245 ls []))) (hE319 : ∀ b, res = Sum.inr (Sum.inr (Sum.inr (Sum.inr (Sum.inr (Sum.inl b))))) → (∀ (H : Heap) (locs : List Loc) (ls : Array Slot), mR G b.2 H → va_S (mA G) s.heap H locs → lv_has ls 6 [(0, .ref (mo G)), (1, .int b.1)] → W p l e (mRm 2 51) s m args below meth c H locs 0 0 Q (F0 m 319 ls []))) (hE340 : ∀ b, res = Sum.inr (Sum.inr (Sum.inr (Sum.inr (Sum.inr (Sum.inr b))))) → (∀ (H : Heap) (locs : List Loc) (ls : Array Slot), mR G b.2 H → va_S (mA G) s.heap H locs → lv_has ls 6 [(0, .ref (mo G)), (1, .int b.1)] → W p l e (mRm 2 51) s m args below meth c H locs 0 0 Q (F0 m 340 ls []))) : (∀ (H : Heap) (locs : List Loc) (ls : Array Slot), mR G q.2.2.2.2 H → va_S (mA G) s.heap H locs → lv_has ls 6 [(0, .ref (mo G)), (1, .int q.1), (2, .int q.2.1), (3, .int q.2.2.1), (4, .int q.2.2.2.1)] → W p l e (mRm 2 51) s m args below meth c H locs 0 0 Q (F0 m 14 ls [])) := by
  replace hf : ((fX4_isFrom q.1 (32 : Int32) (32 : Int32) q.2.2.2.2).bind (fun v2 => if v2 = (0 : Int32) then if q.1 = (q.2.2.2.2.1 25) then some (Sum.inr (Sum.inl (q.1, q.2.2.1, q.2.2.2.2))) else (fX4_isFrom q.1 (97 : Int32) (122 : Int32) q.2.2.2.2).bind (fun v3 => if v3 = (0 : Int32) then (fX4_isFrom q.1 (48 : Int32) (57 : Int32) q.2.2.2.2).bind (fun v4 => if v4 = (0 : Int32) then (mald q.2.2.2.2 24 q.1).bind (fun v5 => if v5 = (40 : Int32) then if q.2.2.1 = (0 : Int32) then if (0 : Int32) < (q.2.2.2.2.1 30) then some (Sum.inr (Sum.inr (Sum.inr (Sum.inr (Sum.inl (q.1, q.2.2.2.2)))))) else JX4_faultOf_230 q.1 q.2.1 q.2.2.1 q.1 q.2.2.2.2 else JX4_faultOf_230 q.1 q.2.1 q.2.2.1 q.1 q.2.2.2.2 else (mald q.2.2.2.2 24 q.1).bind (fun v6 => if v6 = (41 : Int32) then if q.2.2.1 = (0 : Int32) then some (Sum.inr (Sum.inr (Sum.inr (Sum.inr (Sum.inr (Sum.inl (q.1, q.2.2.2.2))))))) else (mald q.2.2.2.2 33 q.2.1).bind (fun v7 => (some (q.2.2.1 + (-1 : Int32))).bind (fun v8 => some (Sum.inl (q.1 + (1 : Int32), v7, v8, (0 : Int32), q.2.2.2.2)))) else some (Sum.inr (Sum.inr (Sum.inr (Sum.inr (Sum.inr (Sum.inr (q.1, q.2.2.2.2))))))))) else (lpw (LX4_faultOf_141 q.1 q.2.1 q.2.2.1 q.2.2.2.1 q.2.2.2.2) q.1).bind (fun b15 => if q.2.2.2.1 < (1 : Int32) then some (Sum.inr (Sum.inr (Sum.inr (Sum.inl (q.1, q.2.2.2.2))))) else if (1 : Int32) < (b15 - q.1) then some (Sum.inr (Sum.inr (Sum.inr (Sum.inl (q.1, q.2.2.2.2))))) else (mald q.2.2.2.2 24 q.1).bind (fun v16 => if v16 = (48 : Int32) then some (Sum.inr (Sum.inr (Sum.inr (Sum.inl (q.1, q.2.2.2.2))))) else (mald q.2.2.2.2 24 q.1).bind (fun v17 => (mast q.2.2.2.2 32 q.2.1 (v17 - (48 : Int32))).bind (fun σ18 => some (Sum.inl (b15, q.2.1, q.2.2.1, (0 : Int32), σ18))))))) else (lpw (LX4_faultOf_72 q.1 q.2.1 q.2.2.1 q.2.2.2.1 q.2.2.2.2) q.1).bind (fun b20 => if q.2.2.2.1 < (2 : Int32) then some (Sum.inr (Sum.inr (Sum.inl (q.1, q.2.2.2.2)))) else (fX4_kindOf q.1 b20 q.2.2.2.2).bind (fun v21 => if v21 = (-1 : Int32) then some (Sum.inr (Sum.inr (Sum.inl (q.1, q.2.2.2.2)))) else (fX4_kindOf q.1 b20 q.2.2.2.2).bind (fun v22 => (mast q.2.2.2.2 31 q.2.1 v22).bind (fun σ23 => some (Sum.inl (b20, q.2.1, q.2.2.1, (1 : Int32), σ23))))))) else some (Sum.inl (q.1 + (1 : Int32), q.2.1, q.2.2.1, q.2.2.2.1, q.2.2.2.2)))) = some res := hf
  obtain ⟨hx, hb, hml, hown, hts⟩ := S.1.1
  intro H locs ls hR hS hl
  refine lv_aload_n hx hb dX4_faultOf_14 rfl (lv_at hl 0 rfl) ?_
  refine lv_iload_n hx hb dX4_faultOf_15 rfl (lv_at hl 1 rfl) ?_
  refine lv_bipush (v := 32) hx hb dX4_faultOf_16 (by decide) ?_
  refine lv_bipush (v := 32) hx hb dX4_faultOf_18 (by decide) ?_
  refine k_bind hf (fun v2 hv2 hf => ?_)
  refine m_call (As := [.int q.1, .int (32 : Int32), .int (32 : Int32)]) (rest := []) S hR hS (met_X4_isFrom hv2) wi_X4_isFrom rfl q2976 ⟨rfl, rfl⟩ ⟨Nat.le_of_ble_eq_true rfl, Nat.le_of_ble_eq_true rfl⟩ rfl hl.1 rfl (Nat.le_of_ble_eq_true rfl) dX4_faultOf_20 (fun H locs hR hS => ?_)
  refine lv_if_eq (tgt := 32) hx hb dX4_faultOf_23 (by decide) (fun c_23 => ?_) (fun c_23 => ?_)
  · replace hf := o_t hf c_23
    refine lv_iload_n hx hb dX4_faultOf_32 rfl (lv_at hl 1 rfl) ?_
    refine lv_aload_n hx hb dX4_faultOf_33 rfl (lv_at hl 0 rfl) ?_
    refine m_geti (k := 25) S hR (by decide) (by decide) q2551 dX4_faultOf_34 ?_
    refine lv_icmp_ne (tgt := 57) hx hb dX4_faultOf_37 (by decide) (fun c_37 => ?_) (fun c_37 => ?_)
    · replace hf := o_f hf c_37
      refine lv_iload_n hx hb dX4_faultOf_57 rfl (lv_at hl 1 rfl) ?_
      refine lv_istore (lv' := [(5, .int q.1), (0, .ref (mo G)), (1, .int q.1), (2, .int q.2.1), (3, .int q.2.2.1), (4, .int q.2.2.2.1)]) hx hb dX4_faultOf_58 hl (by decide) rfl (fun ls hl => ?_)
      refine lv_aload_n hx hb dX4_faultOf_60 rfl (lv_at hl 1 rfl) ?_
      refine lv_iload_n hx hb dX4_faultOf_61 rfl (lv_at hl 2 rfl) ?_
      refine lv_bipush (v := 97) hx hb dX4_faultOf_62 (by decide) ?_
      refine lv_bipush (v := 122) hx hb dX4_faultOf_64 (by decide) ?_
      refine k_bind hf (fun v3 hv3 hf => ?_)
      refine m_call (As := [.int q.1, .int (97 : Int32), .int (122 : Int32)]) (rest := []) S hR hS (met_X4_isFrom hv3) wi_X4_isFrom rfl q2976 ⟨rfl, rfl⟩ ⟨Nat.le_of_ble_eq_true rfl, Nat.le_of_ble_eq_true rfl⟩ rfl hl.1 rfl (Nat.le_of_ble_eq_true rfl) dX4_faultOf_66 (fun H locs hR hS => ?_)
      refine lv_if_eq (tgt := 129) hx hb dX4_faultOf_69 (by decide) (fun c_69 => ?_) (fun c_69 => ?_)
      · replace hf := o_t hf c_69
        refine lv_aload_n hx hb dX4_faultOf_129 rfl (lv_at hl 1 rfl) ?_
        refine lv_iload_n hx hb dX4_faultOf_130 rfl (lv_at hl 2 rfl) ?_
        refine lv_bipush (v := 48) hx hb dX4_faultOf_131 (by decide) ?_
        refine lv_bipush (v := 57) hx hb dX4_faultOf_133 (by decide) ?_
        refine k_bind hf (fun v4 hv4 hf => ?_)
        refine m_call (As := [.int q.1, .int (48 : Int32), .int (57 : Int32)]) (rest := []) S hR hS (met_X4_isFrom hv4) wi_X4_isFrom rfl q2976 ⟨rfl, rfl⟩ ⟨Nat.le_of_ble_eq_true rfl, Nat.le_of_ble_eq_true rfl⟩ rfl hl.1 rfl (Nat.le_of_ble_eq_true rfl) dX4_faultOf_135 (fun H locs hR hS => ?_)
        refine lv_if_eq (tgt := 208) hx hb dX4_faultOf_138 (by decide) (fun c_138 => ?_) (fun c_138 => ?_)
        · replace hf := o_t hf c_138
          refine lv_aload_n hx hb dX4_faultOf_208 rfl (lv_at hl 1 rfl) ?_
          refine m_geta (k := 24) S hR (by decide) (by decide) q2550 dX4_faultOf_209 ?_
          refine lv_iload_n hx hb dX4_faultOf_212 rfl (lv_at hl 2 rfl) ?_
          refine k_bind hf (fun v5 hv5 hf => ?_)
          refine m_iald S hR hv5 dX4_faultOf_213 ?_
          refine lv_bipush (v := 40) hx hb dX4_faultOf_214 (by decide) ?_
          refine lv_icmp_ne (tgt := 304) hx hb dX4_faultOf_216 (by decide) (fun c_216 => ?_) (fun c_216 => ?_)
          · replace hf := o_f hf c_216
            refine lv_aload_n hx hb dX4_faultOf_304 rfl (lv_at hl 1 rfl) ?_
            refine m_geta (k := 24) S hR (by decide) (by decide) q2550 dX4_faultOf_305 ?_
            refine lv_iload_n hx hb dX4_faultOf_308 rfl (lv_at hl 2 rfl) ?_
            refine k_bind hf (fun v6 hv6 hf => ?_)
            refine m_iald S hR hv6 dX4_faultOf_309 ?_
            refine lv_bipush (v := 41) hx hb dX4_faultOf_310 (by decide) ?_
            refine lv_icmp_ne (tgt := 340) hx hb dX4_faultOf_312 (by decide) (fun c_312 => ?_) (fun c_312 => ?_)
            · replace hf := o_f hf c_312
              exact hE340 _ (Option.some.inj hf).symm _ _ _ hR hS (lv_sub (l' := [(0, .ref (mo G)), (1, .int q.1)]) hl [1, 2] rfl)
            · replace hf := o_t hf c_312
              refine lv_iload_n hx hb dX4_faultOf_315 rfl (lv_at hl 4 rfl) ?_
              refine lv_if_ne (tgt := 321) hx hb dX4_faultOf_316 (by decide) (fun c_316 => ?_) (fun c_316 => ?_)
              · replace hf := o_f hf c_316
                refine lv_aload_n hx hb dX4_faultOf_321 rfl (lv_at hl 1 rfl) ?_
                refine m_geta (k := 33) S hR (by decide) (by decide) q2559 dX4_faultOf_322 ?_
                refine lv_iload_n hx hb dX4_faultOf_325 rfl (lv_at hl 3 rfl) ?_
                refine k_bind hf (fun v7 hv7 hf => ?_)
                refine m_iald S hR hv7 dX4_faultOf_326 ?_
                refine lv_istore_n (lv' := [(2, .int v7), (5, .int q.1), (0, .ref (mo G)), (1, .int q.1), (3, .int q.2.2.1), (4, .int q.2.2.2.1)]) hx hb dX4_faultOf_327 rfl hl (by decide) rfl (fun ls hl => ?_)
                refine k_bind hf (fun v8 hv8 hf => ?_)
                refine lv_iinc (lv' := [(3, .int v8), (2, .int v7), (5, .int q.1), (0, .ref (mo G)), (1, .int q.1), (4, .int q.2.2.2.1)]) hx hb dX4_faultOf_328 hl (k := 4) rfl ((m_inc (by decide)).trans (Option.some.inj hv8)) (by decide) rfl (fun ls hl => ?_)
                refine lv_iconst (v := 0) hx hb dX4_faultOf_331 (by decide) ?_
                refine lv_istore (lv' := [(4, .int (0 : Int32)), (3, .int v8), (2, .int v7), (5, .int q.1), (0, .ref (mo G)), (1, .int q.1)]) hx hb dX4_faultOf_332 hl (by decide) rfl (fun ls hl => ?_)
                refine lv_iinc (lv' := [(5, .int (q.1 + (1 : Int32))), (4, .int (0 : Int32)), (3, .int v8), (2, .int v7), (0, .ref (mo G)), (1, .int q.1)]) hx hb dX4_faultOf_334 hl (k := 3) rfl (m_inc (by decide)) (by decide) rfl (fun ls hl => ?_)
                refine lv_goto (tgt := 342) hx hb dX4_faultOf_337 (by decide) ?_
                refine lv_iload hx hb dX4_faultOf_342 (lv_at hl 0 rfl) ?_
                refine lv_istore_n (lv' := [(1, .int (q.1 + (1 : Int32))), (5, .int (q.1 + (1 : Int32))), (4, .int (0 : Int32)), (3, .int v8), (2, .int v7), (0, .ref (mo G))]) hx hb dX4_faultOf_344 rfl hl (by decide) rfl (fun ls hl => ?_)
                refine lv_goto (tgt := 14) hx hb dX4_faultOf_345 (by decide) ?_
                exact hK _ (Option.some.inj hf).symm _ _ _ hR hS (lv_sub (l' := [(0, .ref (mo G)), (1, .int (q.1 + (1 : Int32))), (2, .int v7), (3, .int v8), (4, .int (0 : Int32))]) hl [5, 0, 4, 3, 2] rfl)
              · replace hf := o_t hf c_316
                exact hE319 _ (Option.some.inj hf).symm _ _ _ hR hS (lv_sub (l' := [(0, .ref (mo G)), (1, .int q.1)]) hl [1, 2] rfl)
          · replace hf := o_t hf c_216
            refine lv_iload_n hx hb dX4_faultOf_219 rfl (lv_at hl 4 rfl) ?_
            refine lv_if_ne (tgt := 230) hx hb dX4_faultOf_220 (by decide) (fun c_220 => ?_) (fun c_220 => ?_)
            · replace hf := o_f hf c_220
              exact wJX4_faultOf_230 S hf hK hE40 hE108 hE185 hE245 hE319 hE340 _ _ _ hR hS (lv_sub (l' := [(0, .ref (mo G)), (1, .int q.1), (2, .int q.2.1), (3, .int q.2.2.1), (5, .int q.1)]) hl [1, 2, 3, 4, 0] rfl)
            · replace hf := o_t hf c_220
              refine lv_aload_n hx hb dX4_faultOf_223 rfl (lv_at hl 1 rfl) ?_
              refine m_geti (k := 30) S hR (by decide) (by decide) q2556 dX4_faultOf_224 ?_
              refine lv_if_gt (tgt := 245) hx hb dX4_faultOf_227 (by decide) (fun c_227 => ?_) (fun c_227 => ?_)
              · replace hf := o_t hf c_227
                exact hE245 _ (Option.some.inj hf).symm _ _ _ hR hS (lv_sub (l' := [(0, .ref (mo G)), (1, .int q.1)]) hl [1, 2] rfl)
              · replace hf := o_f hf c_227
                exact wJX4_faultOf_230 S hf hK hE40 hE108 hE185 hE245 hE319 hE340 _ _ _ hR hS (lv_sub (l' := [(0, .ref (mo G)), (1, .int q.1), (2, .int q.2.1), (3, .int q.2.2.1), (5, .int q.1)]) hl [1, 2, 3, 4, 0] rfl)
        · replace hf := o_f hf c_138
          refine k_bind hf (fun b15 hb15 hf => ?_)
          refine wLX4_faultOf_141 S hb15 ?_ _ _ _ hR hS (lv_sub (l' := [(0, .ref (mo G)), (1, .int q.1), (2, .int q.2.1), (3, .int q.2.2.1), (4, .int q.2.2.2.1), (5, .int q.1)]) hl [1, 2, 3, 4, 5, 0] rfl)
          · intro b eb; subst eb; intro H locs ls hR hS hl
            refine lv_iload hx hb dX4_faultOf_160 (lv_at hl 4 rfl) ?_
            refine lv_iconst (v := 1) hx hb dX4_faultOf_162 (by decide) ?_
            refine lv_icmp_lt (tgt := 185) hx hb dX4_faultOf_163 (by decide) (fun c_163 => ?_) (fun c_163 => ?_)
            · replace hf := o_t hf c_163
              exact hE185 _ (Option.some.inj hf).symm _ _ _ hR hS (lv_sub (l' := [(0, .ref (mo G)), (1, .int q.1)]) hl [0, 1] rfl)
            · replace hf := o_f hf c_163
              refine lv_iload hx hb dX4_faultOf_166 (lv_at hl 5 rfl) ?_
              refine lv_iload_n hx hb dX4_faultOf_168 rfl (lv_at hl 1 rfl) ?_
              refine lv_isub hx hb dX4_faultOf_169 ?_
              refine lv_iconst (v := 1) hx hb dX4_faultOf_170 (by decide) ?_
              refine lv_icmp_gt (tgt := 185) hx hb dX4_faultOf_171 (by decide) (fun c_171 => ?_) (fun c_171 => ?_)
              · replace hf := o_t hf c_171
                exact hE185 _ (Option.some.inj hf).symm _ _ _ hR hS (lv_sub (l' := [(0, .ref (mo G)), (1, .int q.1)]) hl [0, 1] rfl)
              · replace hf := o_f hf c_171
                refine lv_aload_n hx hb dX4_faultOf_174 rfl (lv_at hl 0 rfl) ?_
                refine m_geta (k := 24) S hR (by decide) (by decide) q2550 dX4_faultOf_175 ?_
                refine lv_iload_n hx hb dX4_faultOf_178 rfl (lv_at hl 1 rfl) ?_
                refine k_bind hf (fun v16 hv16 hf => ?_)
                refine m_iald S hR hv16 dX4_faultOf_179 ?_
                refine lv_bipush (v := 48) hx hb dX4_faultOf_180 (by decide) ?_
                refine lv_icmp_ne (tgt := 187) hx hb dX4_faultOf_182 (by decide) (fun c_182 => ?_) (fun c_182 => ?_)
                · replace hf := o_f hf c_182
                  refine lv_aload_n hx hb dX4_faultOf_187 rfl (lv_at hl 0 rfl) ?_
                  refine m_geta (k := 32) S hR (by decide) (by decide) q2558 dX4_faultOf_188 ?_
                  refine lv_iload_n hx hb dX4_faultOf_191 rfl (lv_at hl 2 rfl) ?_
                  refine lv_aload_n hx hb dX4_faultOf_192 rfl (lv_at hl 0 rfl) ?_
                  refine m_geta (k := 24) S hR (by decide) (by decide) q2550 dX4_faultOf_193 ?_
                  refine lv_iload_n hx hb dX4_faultOf_196 rfl (lv_at hl 1 rfl) ?_
                  refine k_bind hf (fun v17 hv17 hf => ?_)
                  refine m_iald S hR hv17 dX4_faultOf_197 ?_
                  refine lv_bipush (v := 48) hx hb dX4_faultOf_198 (by decide) ?_
                  refine lv_isub hx hb dX4_faultOf_200 ?_
                  refine k_bind hf (fun σ18 hσ18 hf => ?_)
                  refine m_iast S hR hS hσ18 dX4_faultOf_201 (fun H locs hR hS => ?_)
                  refine lv_iconst (v := 0) hx hb dX4_faultOf_202 (by decide) ?_
                  refine lv_istore (lv' := [(4, .int (0 : Int32)), (0, .ref (mo G)), (1, .int q.1), (2, .int q.2.1), (3, .int q.2.2.1), (5, .int b15)]) hx hb dX4_faultOf_203 hl (by decide) rfl (fun ls hl => ?_)
                  refine lv_goto (tgt := 342) hx hb dX4_faultOf_205 (by decide) ?_
                  refine lv_iload hx hb dX4_faultOf_342 (lv_at hl 5 rfl) ?_
                  refine lv_istore_n (lv' := [(1, .int b15), (4, .int (0 : Int32)), (0, .ref (mo G)), (2, .int q.2.1), (3, .int q.2.2.1), (5, .int b15)]) hx hb dX4_faultOf_344 rfl hl (by decide) rfl (fun ls hl => ?_)
                  refine lv_goto (tgt := 14) hx hb dX4_faultOf_345 (by decide) ?_
                  exact hK _ (Option.some.inj hf).symm _ _ _ hR hS (lv_sub (l' := [(0, .ref (mo G)), (1, .int b15), (2, .int q.2.1), (3, .int q.2.2.1), (4, .int (0 : Int32))]) hl [2, 0, 3, 4, 1] rfl)
                · replace hf := o_t hf c_182
                  exact hE185 _ (Option.some.inj hf).symm _ _ _ hR hS (lv_sub (l' := [(0, .ref (mo G)), (1, .int q.1)]) hl [0, 1] rfl)
      · replace hf := o_f hf c_69
        refine k_bind hf (fun b20 hb20 hf => ?_)
        refine wLX4_faultOf_72 S hb20 ?_ _ _ _ hR hS (lv_sub (l' := [(0, .ref (mo G)), (1, .int q.1), (2, .int q.2.1), (3, .int q.2.2.1), (4, .int q.2.2.2.1), (5, .int q.1)]) hl [1, 2, 3, 4, 5, 0] rfl)
        · intro b eb; subst eb; intro H locs ls hR hS hl
          refine lv_iload hx hb dX4_faultOf_91 (lv_at hl 4 rfl) ?_
          refine lv_iconst (v := 2) hx hb dX4_faultOf_93 (by decide) ?_
          refine lv_icmp_lt (tgt := 108) hx hb dX4_faultOf_94 (by decide) (fun c_94 => ?_) (fun c_94 => ?_)
          · replace hf := o_t hf c_94
            exact hE108 _ (Option.some.inj hf).symm _ _ _ hR hS (lv_sub (l' := [(0, .ref (mo G)), (1, .int q.1)]) hl [0, 1] rfl)
          · replace hf := o_f hf c_94
            refine lv_aload_n hx hb dX4_faultOf_97 rfl (lv_at hl 0 rfl) ?_
            refine lv_iload_n hx hb dX4_faultOf_98 rfl (lv_at hl 1 rfl) ?_
            refine lv_iload hx hb dX4_faultOf_99 (lv_at hl 5 rfl) ?_
            refine k_bind hf (fun v21 hv21 hf => ?_)
            refine m_call (As := [.int q.1, .int b20]) (rest := []) S hR hS (met_X4_kindOf hv21) wi_X4_kindOf rfl q2980 ⟨rfl, rfl⟩ ⟨Nat.le_of_ble_eq_true rfl, Nat.le_of_ble_eq_true rfl⟩ rfl hl.1 rfl (Nat.le_of_ble_eq_true rfl) dX4_faultOf_101 (fun H locs hR hS => ?_)
            refine lv_iconst (v := -1) hx hb dX4_faultOf_104 (by decide) ?_
            refine lv_icmp_ne (tgt := 110) hx hb dX4_faultOf_105 (by decide) (fun c_105 => ?_) (fun c_105 => ?_)
            · replace hf := o_f hf c_105
              refine lv_aload_n hx hb dX4_faultOf_110 rfl (lv_at hl 0 rfl) ?_
              refine m_geta (k := 31) S hR (by decide) (by decide) q2557 dX4_faultOf_111 ?_
              refine lv_iload_n hx hb dX4_faultOf_114 rfl (lv_at hl 2 rfl) ?_
              refine lv_aload_n hx hb dX4_faultOf_115 rfl (lv_at hl 0 rfl) ?_
              refine lv_iload_n hx hb dX4_faultOf_116 rfl (lv_at hl 1 rfl) ?_
              refine lv_iload hx hb dX4_faultOf_117 (lv_at hl 5 rfl) ?_
              refine k_bind hf (fun v22 hv22 hf => ?_)
              refine m_call (As := [.int q.1, .int b20]) (rest := [.int q.2.1, .ref (mad G 31)]) S hR hS (met_X4_kindOf hv22) wi_X4_kindOf rfl q2980 ⟨rfl, rfl⟩ ⟨Nat.le_of_ble_eq_true rfl, Nat.le_of_ble_eq_true rfl⟩ rfl hl.1 rfl (Nat.le_of_ble_eq_true rfl) dX4_faultOf_119 (fun H locs hR hS => ?_)
              refine k_bind hf (fun σ23 hσ23 hf => ?_)
              refine m_iast S hR hS hσ23 dX4_faultOf_122 (fun H locs hR hS => ?_)
              refine lv_iconst (v := 1) hx hb dX4_faultOf_123 (by decide) ?_
              refine lv_istore (lv' := [(4, .int (1 : Int32)), (0, .ref (mo G)), (1, .int q.1), (2, .int q.2.1), (3, .int q.2.2.1), (5, .int b20)]) hx hb dX4_faultOf_124 hl (by decide) rfl (fun ls hl => ?_)
              refine lv_goto (tgt := 342) hx hb dX4_faultOf_126 (by decide) ?_
              refine lv_iload hx hb dX4_faultOf_342 (lv_at hl 5 rfl) ?_
              refine lv_istore_n (lv' := [(1, .int b20), (4, .int (1 : Int32)), (0, .ref (mo G)), (2, .int q.2.1), (3, .int q.2.2.1), (5, .int b20)]) hx hb dX4_faultOf_344 rfl hl (by decide) rfl (fun ls hl => ?_)
              refine lv_goto (tgt := 14) hx hb dX4_faultOf_345 (by decide) ?_
              exact hK _ (Option.some.inj hf).symm _ _ _ hR hS (lv_sub (l' := [(0, .ref (mo G)), (1, .int b20), (2, .int q.2.1), (3, .int q.2.2.1), (4, .int (1 : Int32))]) hl [2, 0, 3, 4, 1] rfl)
            · replace hf := o_t hf c_105
              exact hE108 _ (Option.some.inj hf).symm _ _ _ hR hS (lv_sub (l' := [(0, .ref (mo G)), (1, .int q.1)]) hl [0, 1] rfl)
    · replace hf := o_t hf c_37
      exact hE40 _ (Option.some.inj hf).symm _ _ _ hR hS (lv_sub (l' := [(0, .ref (mo G)), (1, .int q.1), (3, .int q.2.2.1)]) hl [0, 1, 3] rfl)
  · replace hf := o_f hf c_23
    refine lv_iinc (lv' := [(1, .int (q.1 + (1 : Int32))), (0, .ref (mo G)), (2, .int q.2.1), (3, .int q.2.2.1), (4, .int q.2.2.2.1)]) hx hb dX4_faultOf_26 hl (k := 1) rfl (m_inc (by decide)) (by decide) rfl (fun ls hl => ?_)
    refine lv_goto (tgt := 14) hx hb dX4_faultOf_29 (by decide) ?_
    exact hK _ (Option.some.inj hf).symm _ _ _ hR hS (lv_sub (l' := [(0, .ref (mo G)), (1, .int (q.1 + (1 : Int32))), (2, .int q.2.1), (3, .int q.2.2.1), (4, .int q.2.2.2.1)]) hl [1, 0, 2, 3, 4] rfl)
set_option maxHeartbeats 4000000 in
set_option maxRecDepth 100000 in
theorem wLX4_faultOf_14 {l : Launch} {G : mG} {p : Program} {e : Env} {s : State} {m : MethodId} {args : Array Value} {below : List Frame} {meth : Method} {c : Code} {Q : State → Prop} {q : Int32 × Int32 × Int32 × Int32 × mS} {res : (Int32 × Int32 × mS) ⊕ (Int32 × mS) ⊕ (Int32 × mS) ⊕ (Int32 × mS) ⊕ (Int32 × mS) ⊕ (Int32 × mS)} (S : mSt G p m c cX4_faultOf 6 s args meth (Option.some Jvm.ClassFile.FieldType.int)) (h : lpw (LX4_faultOf_14) q = some res) (hE40 : ∀ b, res = (Sum.inl b) → (∀ (H : Heap) (locs : List Loc) (ls : Array Slot), mR G b.2.2 H → va_S (mA G) s.heap H locs → lv_has ls 6 [(0, .ref (mo G)), (1, .int b.1), (3, .int b.2.1)] → W p l e (mRm 2 51) s m args below meth c H locs 0 0 Q (F0 m 40 ls []))) (hE108 : ∀ b, res = (Sum.inr (Sum.inl b)) → (∀ (H : Heap) (locs : List Loc) (ls : Array Slot), mR G b.2 H → va_S (mA G) s.heap H locs → lv_has ls 6 [(0, .ref (mo G)), (1, .int b.1)] → W p l e (mRm 2 51) s m args below meth c H locs 0 0 Q (F0 m 108 ls []))) (hE185 : ∀ b, res = (Sum.inr (Sum.inr (Sum.inl b))) → (∀ (H : Heap) (locs : List Loc) (ls : Array Slot), mR G b.2 H → va_S (mA G) s.heap H locs → lv_has ls 6 [(0, .ref (mo G)), (1, .int b.1)] → W p l e (mRm 2 51) s m args below meth c H locs 0 0 Q (F0 m 185 ls []))) (hE245 : ∀ b, res = (Sum.inr (Sum.inr (Sum.inr (Sum.inl b)))) → (∀ (H : Heap) (locs : List Loc) (ls : Array Slot), mR G b.2 H → va_S (mA G) s.heap H locs → lv_has ls 6 [(0, .ref (mo G)), (1, .int b.1)] → W p l e (mRm 2 51) s m args below meth c H locs 0 0 Q (F0 m 245 ls []))) (hE319 : ∀ b, res = (Sum.inr (Sum.inr (Sum.inr (Sum.inr (Sum.inl b))))) → (∀ (H : Heap) (locs : List Loc) (ls : Array Slot), mR G b.2 H → va_S (mA G) s.heap H locs → lv_has ls 6 [(0, .ref (mo G)), (1, .int b.1)] → W p l e (mRm 2 51) s m args below meth c H locs 0 0 Q (F0 m 319 ls []))) (hE340 : ∀ b, res = (Sum.inr (Sum.inr (Sum.inr (Sum.inr (Sum.inr b))))) → (∀ (H : Heap) (locs : List Loc) (ls : Array Slot), mR G b.2 H → va_S (mA G) s.heap H locs → lv_has ls 6 [(0, .ref (mo G)), (1, .int b.1)] → W p l e (mRm 2 51) s m args below meth c H locs 0 0 Q (F0 m 340 ls []))) : (∀ (H : Heap) (locs : List Loc) (ls : Array Slot), mR G q.2.2.2.2 H → va_S (mA G) s.heap H locs → lv_has ls 6 [(0, .ref (mo G)), (1, .int q.1), (2, .int q.2.1), (3, .int q.2.2.1), (4, .int q.2.2.2.1)] → W p l e (mRm 2 51) s m args below meth c H locs 0 0 Q (F0 m 14 ls [])) :=
  lpw_go _ (fun q => (∀ (H : Heap) (locs : List Loc) (ls : Array Slot), mR G q.2.2.2.2 H → va_S (mA G) s.heap H locs → lv_has ls 6 [(0, .ref (mo G)), (1, .int q.1), (2, .int q.2.1), (3, .int q.2.2.1), (4, .int q.2.2.2.1)] → W p l e (mRm 2 51) s m args below meth c H locs 0 0 Q (F0 m 14 ls []))) (fun b0 => (∀ b, b0 = (Sum.inl b) → (∀ (H : Heap) (locs : List Loc) (ls : Array Slot), mR G b.2.2 H → va_S (mA G) s.heap H locs → lv_has ls 6 [(0, .ref (mo G)), (1, .int b.1), (3, .int b.2.1)] → W p l e (mRm 2 51) s m args below meth c H locs 0 0 Q (F0 m 40 ls []))) ∧ (∀ b, b0 = (Sum.inr (Sum.inl b)) → (∀ (H : Heap) (locs : List Loc) (ls : Array Slot), mR G b.2 H → va_S (mA G) s.heap H locs → lv_has ls 6 [(0, .ref (mo G)), (1, .int b.1)] → W p l e (mRm 2 51) s m args below meth c H locs 0 0 Q (F0 m 108 ls []))) ∧ (∀ b, b0 = (Sum.inr (Sum.inr (Sum.inl b))) → (∀ (H : Heap) (locs : List Loc) (ls : Array Slot), mR G b.2 H → va_S (mA G) s.heap H locs → lv_has ls 6 [(0, .ref (mo G)), (1, .int b.1)] → W p l e (mRm 2 51) s m args below meth c H locs 0 0 Q (F0 m 185 ls []))) ∧ (∀ b, b0 = (Sum.inr (Sum.inr (Sum.inr (Sum.inl b)))) → (∀ (H : Heap) (locs : List Loc) (ls : Array Slot), mR G b.2 H → va_S (mA G) s.heap H locs → lv_has ls 6 [(0, .ref (mo G)), (1, .int b.1)] → W p l e (mRm 2 51) s m args below meth c H locs 0 0 Q (F0 m 245 ls []))) ∧ (∀ b, b0 = (Sum.inr (Sum.inr (Sum.inr (Sum.inr (Sum.inl b))))) → (∀ (H : Heap) (locs : List Loc) (ls : Array Slot), mR G b.2 H → va_S (mA G) s.heap H locs → lv_has ls 6 [(0, .ref (mo G)), (1, .int b.1)] → W p l e (mRm 2 51) s m args below meth c H locs 0 0 Q (F0 m 319 ls []))) ∧ (∀ b, b0 = (Sum.inr (Sum.inr (Sum.inr (Sum.inr (Sum.inr b))))) → (∀ (H : Heap) (locs : List Loc) (ls : Array Slot), mR G b.2 H → va_S (mA G) s.heap H locs → lv_has ls 6 [(0, .ref (mo G)), (1, .int b.1)] → W p l e (mRm 2 51) s m args below meth c H locs 0 0 Q (F0 m 340 ls [])))) (fun q x hf hK hX => wbLX4_faultOf_14 S hf hK (fun b eb => (hX _ eb).1 b rfl) (fun b eb => (hX _ eb).2.1 b rfl) (fun b eb => (hX _ eb).2.2.1 b rfl) (fun b eb => (hX _ eb).2.2.2.1 b rfl) (fun b eb => (hX _ eb).2.2.2.2.1 b rfl) (fun b eb => (hX _ eb).2.2.2.2.2 b rfl)) q res h ⟨hE40, hE108, hE185, hE245, hE319, hE340⟩
set_option maxHeartbeats 4000000 in
set_option maxRecDepth 100000 in
theorem met_X4_faultOf {l : Launch} {G : mG} {σ : mS} {res : Int32 × mS} (hf : fX4_faultOf σ = some res) : mMet l yX4_faultOf cX4_faultOf 6 (Option.some Jvm.ClassFile.FieldType.int) (mRm 2 51) G [.ref (mo G)] σ (some (.int res.1)) res.2 := by
  replace hf : ((mput σ 30 (0 : Int32)).bind (fun σ1 => (lpw (LX4_faultOf_14) ((0 : Int32), (-1 : Int32), (0 : Int32), (0 : Int32), σ1)).bind ((fun e => Sum.elim (fun b25 => if (b25.2.2.1 30) ≤ (0 : Int32) then some (b25.1, b25.2.2) else if b25.2.1 = (0 : Int32) then some ((-1 : Int32), b25.2.2) else some (b25.1, b25.2.2)) (fun e => Sum.elim (fun b26 => some (b26.1, b26.2)) (fun e => Sum.elim (fun b27 => some (b27.1, b27.2)) (fun e => Sum.elim (fun b28 => some (b28.1, b28.2)) (fun e => Sum.elim (fun b29 => some (b29.1, b29.2)) (fun b30 => some (b30.1, b30.2)) e) e) e) e) e)))) = some res := hf
  refine m_start (by decide) rfl (Nat.le_of_ble_eq_true rfl) ?_
  intro p e s m args below meth c S hR hS ls hl
  obtain ⟨hx, hb, hml, hown, hts⟩ := S.1.1
  have hl : lv_has ls 6 [(0, .ref (mo G))] := hl
  refine lv_iconst (v := 0) hx hb dX4_faultOf_0 (by decide) ?_
  refine lv_istore_n (lv' := [(1, .int (0 : Int32)), (0, .ref (mo G))]) hx hb dX4_faultOf_1 rfl hl (by decide) rfl (fun ls hl => ?_)
  refine lv_iconst (v := -1) hx hb dX4_faultOf_2 (by decide) ?_
  refine lv_istore_n (lv' := [(2, .int (-1 : Int32)), (1, .int (0 : Int32)), (0, .ref (mo G))]) hx hb dX4_faultOf_3 rfl hl (by decide) rfl (fun ls hl => ?_)
  refine lv_iconst (v := 0) hx hb dX4_faultOf_4 (by decide) ?_
  refine lv_istore_n (lv' := [(3, .int (0 : Int32)), (2, .int (-1 : Int32)), (1, .int (0 : Int32)), (0, .ref (mo G))]) hx hb dX4_faultOf_5 rfl hl (by decide) rfl (fun ls hl => ?_)
  refine lv_iconst (v := 0) hx hb dX4_faultOf_6 (by decide) ?_
  refine lv_istore (lv' := [(4, .int (0 : Int32)), (3, .int (0 : Int32)), (2, .int (-1 : Int32)), (1, .int (0 : Int32)), (0, .ref (mo G))]) hx hb dX4_faultOf_7 hl (by decide) rfl (fun ls hl => ?_)
  refine lv_aload_n hx hb dX4_faultOf_9 rfl (lv_at hl 4 rfl) ?_
  refine lv_iconst (v := 0) hx hb dX4_faultOf_10 (by decide) ?_
  refine k_bind hf (fun σ1 hσ1 hf => ?_)
  refine m_puti (k := 30) S hR hS hσ1 (by decide) (by decide) rfl rfl rfl rfl q2556 dX4_faultOf_11 (fun H locs hR hS => ?_)
  refine k_bind hf (fun b24 hb24 hf => ?_)
  refine wLX4_faultOf_14 S hb24 ?_ ?_ ?_ ?_ ?_ ?_ _ _ _ hR hS (lv_sub (l' := [(0, .ref (mo G)), (1, .int (0 : Int32)), (2, .int (-1 : Int32)), (3, .int (0 : Int32)), (4, .int (0 : Int32))]) hl [4, 3, 2, 1, 0] rfl)
  · intro b25 eb; subst eb; intro H locs ls hR hS hl
    replace hf := o_l hf
    refine lv_aload_n hx hb dX4_faultOf_40 rfl (lv_at hl 0 rfl) ?_
    refine m_geti (k := 30) S hR (by decide) (by decide) q2556 dX4_faultOf_41 ?_
    refine lv_if_le (tgt := 55) hx hb dX4_faultOf_44 (by decide) (fun c_44 => ?_) (fun c_44 => ?_)
    · replace hf := o_t hf c_44
      refine lv_iload_n hx hb dX4_faultOf_55 rfl (lv_at hl 1 rfl) ?_
      obtain rfl := Option.some.inj hf
      exact m_iret S hR hS rfl dX4_faultOf_56
    · replace hf := o_f hf c_44
      refine lv_iload_n hx hb dX4_faultOf_47 rfl (lv_at hl 2 rfl) ?_
      refine lv_if_ne (tgt := 55) hx hb dX4_faultOf_48 (by decide) (fun c_48 => ?_) (fun c_48 => ?_)
      · replace hf := o_f hf c_48
        refine lv_iload_n hx hb dX4_faultOf_55 rfl (lv_at hl 1 rfl) ?_
        obtain rfl := Option.some.inj hf
        exact m_iret S hR hS rfl dX4_faultOf_56
      · replace hf := o_t hf c_48
        refine lv_iconst (v := -1) hx hb dX4_faultOf_51 (by decide) ?_
        refine lv_goto (tgt := 56) hx hb dX4_faultOf_52 (by decide) ?_
        obtain rfl := Option.some.inj hf
        exact m_iret S hR hS rfl dX4_faultOf_56
  · intro b26 eb; subst eb; intro H locs ls hR hS hl
    replace hf := o_r hf
    replace hf := o_l hf
    refine lv_iload_n hx hb dX4_faultOf_108 rfl (lv_at hl 1 rfl) ?_
    obtain rfl := Option.some.inj hf
    exact m_iret S hR hS rfl dX4_faultOf_109
  · intro b27 eb; subst eb; intro H locs ls hR hS hl
    replace hf := o_r hf
    replace hf := o_r hf
    replace hf := o_l hf
    refine lv_iload_n hx hb dX4_faultOf_185 rfl (lv_at hl 1 rfl) ?_
    obtain rfl := Option.some.inj hf
    exact m_iret S hR hS rfl dX4_faultOf_186
  · intro b28 eb; subst eb; intro H locs ls hR hS hl
    replace hf := o_r hf
    replace hf := o_r hf
    replace hf := o_r hf
    replace hf := o_l hf
    refine lv_iload_n hx hb dX4_faultOf_245 rfl (lv_at hl 1 rfl) ?_
    obtain rfl := Option.some.inj hf
    exact m_iret S hR hS rfl dX4_faultOf_246
  · intro b29 eb; subst eb; intro H locs ls hR hS hl
    replace hf := o_r hf
    replace hf := o_r hf
    replace hf := o_r hf
    replace hf := o_r hf
    replace hf := o_l hf
    refine lv_iload_n hx hb dX4_faultOf_319 rfl (lv_at hl 1 rfl) ?_
    obtain rfl := Option.some.inj hf
    exact m_iret S hR hS rfl dX4_faultOf_320
  · intro b30 eb; subst eb; intro H locs ls hR hS hl
    replace hf := o_r hf
    replace hf := o_r hf
    replace hf := o_r hf
    replace hf := o_r hf
    replace hf := o_r hf
    refine lv_iload_n hx hb dX4_faultOf_340 rfl (lv_at hl 1 rfl) ?_
    obtain rfl := Option.some.inj hf
    exact m_iret S hR hS rfl dX4_faultOf_341
