/-! the reference, walked: sheet wrongAt write item copy load judge -/
noncomputable def LX4_sheet_68 (y1 : Int32) (q : Int32 × mS) : Option ((Int32 × mS) ⊕ (mS)) :=
  if (60 : Int32) ≤ q.1 then some (Sum.inr q.2) else (mast q.2 45 (((60 : Int32) * y1) + q.1) (0 : Int32)).bind (fun σ3 => some (Sum.inl (q.1 + (1 : Int32), σ3)))
noncomputable def JX4_sheet_64 (y1 : Int32) (z0 : Int32) (z1 : Int32) (z2 : Nat) (σ : mS) : Option (Int32 × mS) :=
  (mast σ z2 z1 z0).bind (fun σ2 => (lpw (LX4_sheet_68 y1) ((0 : Int32), σ2)).bind (fun b4 => some ((1 : Int32), b4)))
noncomputable def JX4_sheet_42 (y1 : Int32) (y2 : Int32) (y3 : Int32) (σ : mS) : Option (Int32 × mS) :=
  (mast σ 43 y1 y2).bind (fun σ1 => if y2 = (-1 : Int32) then JX4_sheet_64 y1 (0 : Int32) y1 44 σ1 else JX4_sheet_64 y1 y3 y1 44 σ1)
noncomputable def JX4_sheet_30 (y1 : Int32) (y2 : Int32) (y3 : Int32) (σ : mS) : Option (Int32 × mS) :=
  if y2 = (-1 : Int32) then JX4_sheet_42 y1 y2 y3 σ else if (0 : Int32) ≤ y3 then JX4_sheet_42 y1 y2 y3 σ else some ((-14 : Int32), σ)
noncomputable def fX4_sheet (x1 : Int32) (x2 : Int32) (x3 : Int32) (σ : mS) : Option (Int32 × mS) :=
  if (fX4_isSheet x1) = (0 : Int32) then some ((-2 : Int32), σ) else if (fX4_in x2 (-1 : Int32) (2 : Int32)) = (0 : Int32) then some ((-2 : Int32), σ) else if x2 = (-1 : Int32) then JX4_sheet_30 x1 x2 x3 σ else if x3 ≤ (60 : Int32) then JX4_sheet_30 x1 x2 x3 σ else some ((-2 : Int32), σ)
theorem wi_X4_sheet : wInfV yX4_sheet cX4_sheet 5 (Option.some Jvm.ClassFile.FieldType.int) 3 := ⟨q3055, q3056, q116, q3057, (by decide +kernel), (by decide +kernel), (by decide +kernel)⟩
set_option maxHeartbeats 4000000 in
set_option maxRecDepth 100000 in
theorem wbLX4_sheet_68 {l : Launch} {G : mG} {p : Program} {e : Env} {s : State} {m : MethodId} {args : Array Value} {below : List Frame} {meth : Method} {c : Code} {Q : State → Prop} {y1 : Int32} {q : Int32 × mS} {res : (Int32 × mS) ⊕ (mS)} (S : mSt G p m c cX4_sheet 5 s args meth (Option.some Jvm.ClassFile.FieldType.int)) (hf : LX4_sheet_68 y1 q = some res) (hK : ∀ q, res = Sum.inl q → (∀ (H : Heap) (locs : List Loc) (ls : Array Slot), mR G q.2 H → va_S (mA G) s.heap H locs → lv_has ls 5 [(0, .ref (mo G)), (1, .int y1), (4, .int q.1)] → W p l e (mRm 2 42) s m args below meth c H locs 0 0 Q (F0 m 68 ls []))) (hE94 : ∀ b, res = Sum.inr b → (∀ (H : Heap) (locs : List Loc) (ls : Array Slot), mR G b H → va_S (mA G) s.heap H locs → lv_has ls 5 [(0, .ref (mo G))] → W p l e (mRm 2 42) s m args below meth c H locs 0 0 Q (F0 m 94 ls []))) : (∀ (H : Heap) (locs : List Loc) (ls : Array Slot), mR G q.2 H → va_S (mA G) s.heap H locs → lv_has ls 5 [(0, .ref (mo G)), (1, .int y1), (4, .int q.1)] → W p l e (mRm 2 42) s m args below meth c H locs 0 0 Q (F0 m 68 ls [])) := by
  replace hf : (if (60 : Int32) ≤ q.1 then some (Sum.inr q.2) else (mast q.2 45 (((60 : Int32) * y1) + q.1) (0 : Int32)).bind (fun σ3 => some (Sum.inl (q.1 + (1 : Int32), σ3)))) = some res := hf
  obtain ⟨hx, hb, hml, hown, hts⟩ := S.1.1
  intro H locs ls hR hS hl
  refine lv_iload hx hb dX4_sheet_68 (lv_at hl 2 rfl) ?_
  refine lv_bipush (v := 60) hx hb dX4_sheet_70 (by decide) ?_
  refine lv_icmp_ge (tgt := 94) hx hb dX4_sheet_72 (by decide) (fun c_72 => ?_) (fun c_72 => ?_)
  · replace hf := o_t hf c_72
    exact hE94 _ (Option.some.inj hf).symm _ _ _ hR hS (lv_sub (l' := [(0, .ref (mo G))]) hl [0] rfl)
  · replace hf := o_f hf c_72
    refine lv_aload_n hx hb dX4_sheet_75 rfl (lv_at hl 0 rfl) ?_
    refine m_geta (k := 45) S hR (by decide) (by decide) q2571 dX4_sheet_76 ?_
    refine lv_bipush (v := 60) hx hb dX4_sheet_79 (by decide) ?_
    refine lv_iload_n hx hb dX4_sheet_81 rfl (lv_at hl 1 rfl) ?_
    refine lv_imul hx hb dX4_sheet_82 ?_
    refine lv_iload hx hb dX4_sheet_83 (lv_at hl 2 rfl) ?_
    refine lv_iadd hx hb dX4_sheet_85 ?_
    refine lv_iconst (v := 0) hx hb dX4_sheet_86 (by decide) ?_
    refine k_bind hf (fun σ3 hσ3 hf => ?_)
    refine m_iast S hR hS hσ3 dX4_sheet_87 (fun H locs hR hS => ?_)
    refine lv_iinc (lv' := [(4, .int (q.1 + (1 : Int32))), (0, .ref (mo G)), (1, .int y1)]) hx hb dX4_sheet_88 hl (k := 2) rfl (m_inc (by decide)) (by decide) rfl (fun ls hl => ?_)
    refine lv_goto (tgt := 68) hx hb dX4_sheet_91 (by decide) ?_
    exact hK _ (Option.some.inj hf).symm _ _ _ hR hS (lv_sub (l' := [(0, .ref (mo G)), (1, .int y1), (4, .int (q.1 + (1 : Int32)))]) hl [1, 2, 0] rfl)
set_option maxHeartbeats 4000000 in
set_option maxRecDepth 100000 in
theorem wLX4_sheet_68 {l : Launch} {G : mG} {p : Program} {e : Env} {s : State} {m : MethodId} {args : Array Value} {below : List Frame} {meth : Method} {c : Code} {Q : State → Prop} {y1 : Int32} {q : Int32 × mS} {res : mS} (S : mSt G p m c cX4_sheet 5 s args meth (Option.some Jvm.ClassFile.FieldType.int)) (h : lpw (LX4_sheet_68 y1) q = some res) (hE94 : ∀ b, res = b → (∀ (H : Heap) (locs : List Loc) (ls : Array Slot), mR G b H → va_S (mA G) s.heap H locs → lv_has ls 5 [(0, .ref (mo G))] → W p l e (mRm 2 42) s m args below meth c H locs 0 0 Q (F0 m 94 ls []))) : (∀ (H : Heap) (locs : List Loc) (ls : Array Slot), mR G q.2 H → va_S (mA G) s.heap H locs → lv_has ls 5 [(0, .ref (mo G)), (1, .int y1), (4, .int q.1)] → W p l e (mRm 2 42) s m args below meth c H locs 0 0 Q (F0 m 68 ls [])) :=
  lpw_go _ (fun q => (∀ (H : Heap) (locs : List Loc) (ls : Array Slot), mR G q.2 H → va_S (mA G) s.heap H locs → lv_has ls 5 [(0, .ref (mo G)), (1, .int y1), (4, .int q.1)] → W p l e (mRm 2 42) s m args below meth c H locs 0 0 Q (F0 m 68 ls []))) (fun b0 => (∀ b, b0 = b → (∀ (H : Heap) (locs : List Loc) (ls : Array Slot), mR G b H → va_S (mA G) s.heap H locs → lv_has ls 5 [(0, .ref (mo G))] → W p l e (mRm 2 42) s m args below meth c H locs 0 0 Q (F0 m 94 ls [])))) (fun q x hf hK hX => wbLX4_sheet_68 S hf hK (fun b eb => (hX _ eb) b rfl)) q res h hE94
set_option maxHeartbeats 4000000 in
set_option maxRecDepth 100000 in
theorem wJX4_sheet_64 {l : Launch} {G : mG} {p : Program} {e : Env} {s : State} {m : MethodId} {args : Array Value} {below : List Frame} {meth : Method} {c : Code} {y1 : Int32} {z0 : Int32} {z1 : Int32} {z2 : Nat} {σ : mS} {res : Int32 × mS} (S : mSt G p m c cX4_sheet 5 s args meth (Option.some Jvm.ClassFile.FieldType.int)) (hf : JX4_sheet_64 y1 z0 z1 z2 σ = some res) : ∀ (H : Heap) (locs : List Loc) (ls : Array Slot), mR G σ H → va_S (mA G) s.heap H locs → lv_has ls 5 [(0, .ref (mo G)), (1, .int y1)] → W p l e (mRm 2 42) s m args below meth c H locs 0 0 (MQ below (mQ G (some (.int res.1)) res.2) args s 0 0 (mA G)) (F0 m 64 ls [.int z0, .int z1, .ref (mad G z2)]) := by
  replace hf : ((mast σ z2 z1 z0).bind (fun σ2 => (lpw (LX4_sheet_68 y1) ((0 : Int32), σ2)).bind (fun b4 => some ((1 : Int32), b4)))) = some res := hf
  obtain ⟨hx, hb, hml, hown, hts⟩ := S.1.1
  intro H locs ls hR hS hl
  refine k_bind hf (fun σ2 hσ2 hf => ?_)
  refine m_iast S hR hS hσ2 dX4_sheet_64 (fun H locs hR hS => ?_)
  refine lv_iconst (v := 0) hx hb dX4_sheet_65 (by decide) ?_
  refine lv_istore (lv' := [(4, .int (0 : Int32)), (0, .ref (mo G)), (1, .int y1)]) hx hb dX4_sheet_66 hl (by decide) rfl (fun ls hl => ?_)
  refine k_bind hf (fun b4 hb4 hf => ?_)
  refine wLX4_sheet_68 S hb4 ?_ _ _ _ hR hS (lv_sub (l' := [(0, .ref (mo G)), (1, .int y1), (4, .int (0 : Int32))]) hl [1, 2, 0] rfl)
  · intro b eb; subst eb; intro H locs ls hR hS hl
    refine lv_iconst (v := 1) hx hb dX4_sheet_94 (by decide) ?_
    obtain rfl := Option.some.inj hf
    exact m_iret S hR hS rfl dX4_sheet_95
set_option maxHeartbeats 4000000 in
set_option maxRecDepth 100000 in
theorem wJX4_sheet_42 {l : Launch} {G : mG} {p : Program} {e : Env} {s : State} {m : MethodId} {args : Array Value} {below : List Frame} {meth : Method} {c : Code} {y1 : Int32} {y2 : Int32} {y3 : Int32} {σ : mS} {res : Int32 × mS} (S : mSt G p m c cX4_sheet 5 s args meth (Option.some Jvm.ClassFile.FieldType.int)) (hf : JX4_sheet_42 y1 y2 y3 σ = some res) : ∀ (H : Heap) (locs : List Loc) (ls : Array Slot), mR G σ H → va_S (mA G) s.heap H locs → lv_has ls 5 [(0, .ref (mo G)), (1, .int y1), (2, .int y2), (3, .int y3)] → W p l e (mRm 2 42) s m args below meth c H locs 0 0 (MQ below (mQ G (some (.int res.1)) res.2) args s 0 0 (mA G)) (F0 m 42 ls []) := by
  replace hf : ((mast σ 43 y1 y2).bind (fun σ1 => if y2 = (-1 : Int32) then JX4_sheet_64 y1 (0 : Int32) y1 44 σ1 else JX4_sheet_64 y1 y3 y1 44 σ1)) = some res := hf
  obtain ⟨hx, hb, hml, hown, hts⟩ := S.1.1
  intro H locs ls hR hS hl
  refine lv_aload_n hx hb dX4_sheet_42 rfl (lv_at hl 0 rfl) ?_
  refine m_geta (k := 43) S hR (by decide) (by decide) q2569 dX4_sheet_43 ?_
  refine lv_iload_n hx hb dX4_sheet_46 rfl (lv_at hl 1 rfl) ?_
  refine lv_iload_n hx hb dX4_sheet_47 rfl (lv_at hl 2 rfl) ?_
  refine k_bind hf (fun σ1 hσ1 hf => ?_)
  refine m_iast S hR hS hσ1 dX4_sheet_48 (fun H locs hR hS => ?_)
  refine lv_aload_n hx hb dX4_sheet_49 rfl (lv_at hl 0 rfl) ?_
  refine m_geta (k := 44) S hR (by decide) (by decide) q2570 dX4_sheet_50 ?_
  refine lv_iload_n hx hb dX4_sheet_53 rfl (lv_at hl 1 rfl) ?_
  refine lv_iload_n hx hb dX4_sheet_54 rfl (lv_at hl 2 rfl) ?_
  refine lv_iconst (v := -1) hx hb dX4_sheet_55 (by decide) ?_
  refine lv_icmp_ne (tgt := 63) hx hb dX4_sheet_56 (by decide) (fun c_56 => ?_) (fun c_56 => ?_)
  · replace hf := o_f hf c_56
    refine lv_iload_n hx hb dX4_sheet_63 rfl (lv_at hl 3 rfl) ?_
    exact wJX4_sheet_64 S hf _ _ _ hR hS (lv_sub (l' := [(0, .ref (mo G)), (1, .int y1)]) hl [0, 1] rfl)
  · replace hf := o_t hf c_56
    refine lv_iconst (v := 0) hx hb dX4_sheet_59 (by decide) ?_
    refine lv_goto (tgt := 64) hx hb dX4_sheet_60 (by decide) ?_
    exact wJX4_sheet_64 S hf _ _ _ hR hS (lv_sub (l' := [(0, .ref (mo G)), (1, .int y1)]) hl [0, 1] rfl)
set_option maxHeartbeats 4000000 in
set_option maxRecDepth 100000 in
theorem wJX4_sheet_30 {l : Launch} {G : mG} {p : Program} {e : Env} {s : State} {m : MethodId} {args : Array Value} {below : List Frame} {meth : Method} {c : Code} {y1 : Int32} {y2 : Int32} {y3 : Int32} {σ : mS} {res : Int32 × mS} (S : mSt G p m c cX4_sheet 5 s args meth (Option.some Jvm.ClassFile.FieldType.int)) (hf : JX4_sheet_30 y1 y2 y3 σ = some res) : ∀ (H : Heap) (locs : List Loc) (ls : Array Slot), mR G σ H → va_S (mA G) s.heap H locs → lv_has ls 5 [(0, .ref (mo G)), (1, .int y1), (2, .int y2), (3, .int y3)] → W p l e (mRm 2 42) s m args below meth c H locs 0 0 (MQ below (mQ G (some (.int res.1)) res.2) args s 0 0 (mA G)) (F0 m 30 ls []) := by
  replace hf : (if y2 = (-1 : Int32) then JX4_sheet_42 y1 y2 y3 σ else if (0 : Int32) ≤ y3 then JX4_sheet_42 y1 y2 y3 σ else some ((-14 : Int32), σ)) = some res := hf
  obtain ⟨hx, hb, hml, hown, hts⟩ := S.1.1
  intro H locs ls hR hS hl
  refine lv_iload_n hx hb dX4_sheet_30 rfl (lv_at hl 2 rfl) ?_
  refine lv_iconst (v := -1) hx hb dX4_sheet_31 (by decide) ?_
  refine lv_icmp_eq (tgt := 42) hx hb dX4_sheet_32 (by decide) (fun c_32 => ?_) (fun c_32 => ?_)
  · replace hf := o_t hf c_32
    exact wJX4_sheet_42 S hf _ _ _ hR hS hl
  · replace hf := o_f hf c_32
    refine lv_iload_n hx hb dX4_sheet_35 rfl (lv_at hl 3 rfl) ?_
    refine lv_if_ge (tgt := 42) hx hb dX4_sheet_36 (by decide) (fun c_36 => ?_) (fun c_36 => ?_)
    · replace hf := o_t hf c_36
      exact wJX4_sheet_42 S hf _ _ _ hR hS hl
    · replace hf := o_f hf c_36
      refine lv_bipush (v := -14) hx hb dX4_sheet_39 (by decide) ?_
      obtain rfl := Option.some.inj hf
      exact m_iret S hR hS rfl dX4_sheet_41
set_option maxHeartbeats 4000000 in
set_option maxRecDepth 100000 in
theorem met_X4_sheet {l : Launch} {G : mG} {x1 : Int32} {x2 : Int32} {x3 : Int32} {σ : mS} {res : Int32 × mS} (hf : fX4_sheet x1 x2 x3 σ = some res) : mMet l yX4_sheet cX4_sheet 5 (Option.some Jvm.ClassFile.FieldType.int) (mRm 2 42) G [.ref (mo G), .int x1, .int x2, .int x3] σ (some (.int res.1)) res.2 := by
  replace hf : (if (fX4_isSheet x1) = (0 : Int32) then some ((-2 : Int32), σ) else if (fX4_in x2 (-1 : Int32) (2 : Int32)) = (0 : Int32) then some ((-2 : Int32), σ) else if x2 = (-1 : Int32) then JX4_sheet_30 x1 x2 x3 σ else if x3 ≤ (60 : Int32) then JX4_sheet_30 x1 x2 x3 σ else some ((-2 : Int32), σ)) = some res := hf
  refine m_start (by decide) rfl (Nat.le_of_ble_eq_true rfl) ?_
  intro p e s m args below meth c S hR hS ls hl
  obtain ⟨hx, hb, hml, hown, hts⟩ := S.1.1
  have hl : lv_has ls 5 [(0, .ref (mo G)), (1, .int x1), (2, .int x2), (3, .int x3)] := hl
  refine lv_iload_n hx hb dX4_sheet_0 rfl (lv_at hl 1 rfl) ?_
  refine s_call (As := [.int x1]) (rest := []) S.1.1 (met_X4_isSheet rfl) wi_X4_isSheet q2893 ⟨rfl, rfl⟩ ⟨Nat.le_of_ble_eq_true rfl, Nat.le_of_ble_eq_true rfl⟩ rfl hl.1 rfl (Nat.le_of_ble_eq_true rfl) dX4_sheet_1 ⟨Nat.zero_le _, Nat.zero_le _⟩ ?_
  refine lv_if_eq (tgt := 27) hx hb dX4_sheet_4 (by decide) (fun c_4 => ?_) (fun c_4 => ?_)
  · replace hf := o_t hf c_4
    refine lv_bipush (v := -2) hx hb dX4_sheet_27 (by decide) ?_
    obtain rfl := Option.some.inj hf
    exact m_iret S hR hS rfl dX4_sheet_29
  · replace hf := o_f hf c_4
    refine lv_iload_n hx hb dX4_sheet_7 rfl (lv_at hl 2 rfl) ?_
    refine lv_iconst (v := -1) hx hb dX4_sheet_8 (by decide) ?_
    refine lv_iconst (v := 2) hx hb dX4_sheet_9 (by decide) ?_
    refine s_call (As := [.int x2, .int (-1 : Int32), .int (2 : Int32)]) (rest := []) S.1.1 (met_X4_in rfl) wi_X4_in q2681 ⟨rfl, rfl⟩ ⟨Nat.le_of_ble_eq_true rfl, Nat.le_of_ble_eq_true rfl⟩ rfl hl.1 rfl (Nat.le_of_ble_eq_true rfl) dX4_sheet_10 ⟨Nat.zero_le _, Nat.zero_le _⟩ ?_
    refine lv_if_eq (tgt := 27) hx hb dX4_sheet_13 (by decide) (fun c_13 => ?_) (fun c_13 => ?_)
    · replace hf := o_t hf c_13
      refine lv_bipush (v := -2) hx hb dX4_sheet_27 (by decide) ?_
      obtain rfl := Option.some.inj hf
      exact m_iret S hR hS rfl dX4_sheet_29
    · replace hf := o_f hf c_13
      refine lv_iload_n hx hb dX4_sheet_16 rfl (lv_at hl 2 rfl) ?_
      refine lv_iconst (v := -1) hx hb dX4_sheet_17 (by decide) ?_
      refine lv_icmp_eq (tgt := 30) hx hb dX4_sheet_18 (by decide) (fun c_18 => ?_) (fun c_18 => ?_)
      · replace hf := o_t hf c_18
        exact wJX4_sheet_30 S hf _ _ _ hR hS hl
      · replace hf := o_f hf c_18
        refine lv_iload_n hx hb dX4_sheet_21 rfl (lv_at hl 3 rfl) ?_
        refine lv_bipush (v := 60) hx hb dX4_sheet_22 (by decide) ?_
        refine lv_icmp_le (tgt := 30) hx hb dX4_sheet_24 (by decide) (fun c_24 => ?_) (fun c_24 => ?_)
        · replace hf := o_t hf c_24
          exact wJX4_sheet_30 S hf _ _ _ hR hS hl
        · replace hf := o_f hf c_24
          refine lv_bipush (v := -2) hx hb dX4_sheet_27 (by decide) ?_
          obtain rfl := Option.some.inj hf
          exact m_iret S hR hS rfl dX4_sheet_29

noncomputable def fX4_wrongAt (x1 : Int32) (x2 : Int32) (σ : mS) : Option Int32 :=
  if (fX4_isSheet x1) = (0 : Int32) then some (-2 : Int32) else (mald σ 43 x1).bind (fun v1 => if v1 = (-1 : Int32) then some (-11 : Int32) else (mald σ 44 x1).bind (fun v2 => if (fX4_in x2 (0 : Int32) (v2 - (1 : Int32))) = (0 : Int32) then some (-12 : Int32) else some (0 : Int32)))
theorem wi_X4_wrongAt : wInfV yX4_wrongAt cX4_wrongAt 3 (Option.some Jvm.ClassFile.FieldType.int) 2 := ⟨q3064, qs104, q116, q3065, (by decide +kernel), (by decide +kernel), (by decide +kernel)⟩
set_option maxHeartbeats 4000000 in
set_option maxRecDepth 100000 in
theorem met_X4_wrongAt {l : Launch} {G : mG} {x1 : Int32} {x2 : Int32} {σ : mS} {res : Int32} (hf : fX4_wrongAt x1 x2 σ = some res) : mMet l yX4_wrongAt cX4_wrongAt 3 (Option.some Jvm.ClassFile.FieldType.int) (mRm 2 42) G [.ref (mo G), .int x1, .int x2] σ (some (.int res)) σ := by
  replace hf : (if (fX4_isSheet x1) = (0 : Int32) then some (-2 : Int32) else (mald σ 43 x1).bind (fun v1 => if v1 = (-1 : Int32) then some (-11 : Int32) else (mald σ 44 x1).bind (fun v2 => if (fX4_in x2 (0 : Int32) (v2 - (1 : Int32))) = (0 : Int32) then some (-12 : Int32) else some (0 : Int32)))) = some res := hf
  refine m_start (by decide) rfl (Nat.le_of_ble_eq_true rfl) ?_
  intro p e s m args below meth c S hR hS ls hl
  obtain ⟨hx, hb, hml, hown, hts⟩ := S.1.1
  have hl : lv_has ls 3 [(0, .ref (mo G)), (1, .int x1), (2, .int x2)] := hl
  refine lv_iload_n hx hb dX4_wrongAt_0 rfl (lv_at hl 1 rfl) ?_
  refine s_call (As := [.int x1]) (rest := []) S.1.1 (met_X4_isSheet rfl) wi_X4_isSheet q2893 ⟨rfl, rfl⟩ ⟨Nat.le_of_ble_eq_true rfl, Nat.le_of_ble_eq_true rfl⟩ rfl hl.1 rfl (Nat.le_of_ble_eq_true rfl) dX4_wrongAt_1 ⟨Nat.zero_le _, Nat.zero_le _⟩ ?_
  refine lv_if_ne (tgt := 12) hx hb dX4_wrongAt_4 (by decide) (fun c_4 => ?_) (fun c_4 => ?_)
  · replace hf := o_f hf c_4
    refine lv_aload_n hx hb dX4_wrongAt_12 rfl (lv_at hl 0 rfl) ?_
    refine m_geta (k := 43) S hR (by decide) (by decide) q2569 dX4_wrongAt_13 ?_
    refine lv_iload_n hx hb dX4_wrongAt_16 rfl (lv_at hl 1 rfl) ?_
    refine k_bind hf (fun v1 hv1 hf => ?_)
    refine m_iald S hR hv1 dX4_wrongAt_17 ?_
    refine lv_iconst (v := -1) hx hb dX4_wrongAt_18 (by decide) ?_
    refine lv_icmp_ne (tgt := 27) hx hb dX4_wrongAt_19 (by decide) (fun c_19 => ?_) (fun c_19 => ?_)
    · replace hf := o_f hf c_19
      refine lv_iload_n hx hb dX4_wrongAt_27 rfl (lv_at hl 2 rfl) ?_
      refine lv_iconst (v := 0) hx hb dX4_wrongAt_28 (by decide) ?_
      refine lv_aload_n hx hb dX4_wrongAt_29 rfl (lv_at hl 0 rfl) ?_
      refine m_geta (k := 44) S hR (by decide) (by decide) q2570 dX4_wrongAt_30 ?_
      refine lv_iload_n hx hb dX4_wrongAt_33 rfl (lv_at hl 1 rfl) ?_
      refine k_bind hf (fun v2 hv2 hf => ?_)
      refine m_iald S hR hv2 dX4_wrongAt_34 ?_
      refine lv_iconst (v := 1) hx hb dX4_wrongAt_35 (by decide) ?_
      refine lv_isub hx hb dX4_wrongAt_36 ?_
      refine s_call (As := [.int x2, .int (0 : Int32), .int (v2 - (1 : Int32))]) (rest := []) S.1.1 (met_X4_in rfl) wi_X4_in q2681 ⟨rfl, rfl⟩ ⟨Nat.le_of_ble_eq_true rfl, Nat.le_of_ble_eq_true rfl⟩ rfl hl.1 rfl (Nat.le_of_ble_eq_true rfl) dX4_wrongAt_37 ⟨Nat.zero_le _, Nat.zero_le _⟩ ?_
      refine lv_if_eq (tgt := 47) hx hb dX4_wrongAt_40 (by decide) (fun c_40 => ?_) (fun c_40 => ?_)
      · replace hf := o_t hf c_40
        refine lv_bipush (v := -12) hx hb dX4_wrongAt_47 (by decide) ?_
        obtain rfl := Option.some.inj hf
        exact m_iret S hR hS rfl dX4_wrongAt_49
      · replace hf := o_f hf c_40
        refine lv_iconst (v := 0) hx hb dX4_wrongAt_43 (by decide) ?_
        refine lv_goto (tgt := 49) hx hb dX4_wrongAt_44 (by decide) ?_
        obtain rfl := Option.some.inj hf
        exact m_iret S hR hS rfl dX4_wrongAt_49
    · replace hf := o_t hf c_19
      refine lv_bipush (v := -11) hx hb dX4_wrongAt_22 (by decide) ?_
      refine lv_goto (tgt := 49) hx hb dX4_wrongAt_24 (by decide) ?_
      obtain rfl := Option.some.inj hf
      exact m_iret S hR hS rfl dX4_wrongAt_49
  · replace hf := o_t hf c_4
    refine lv_bipush (v := -2) hx hb dX4_wrongAt_7 (by decide) ?_
    refine lv_goto (tgt := 49) hx hb dX4_wrongAt_9 (by decide) ?_
    obtain rfl := Option.some.inj hf
    exact m_iret S hR hS rfl dX4_wrongAt_49

noncomputable def fX4_write (x1 : Int32) (x2 : Int32) (x3 : Int32) (σ : mS) : Option (Int32 × mS) :=
  (fX4_wrongAt x1 x2 σ).bind (fun v1 => if v1 = (0 : Int32) then (mald σ 43 x1).bind (fun v2 => if v2 = (0 : Int32) then (mast σ 45 (((60 : Int32) * x1) + x2) x3.toInt8.toInt32).bind (fun σ6 => some ((1 : Int32), σ6)) else (mald σ 43 x1).bind (fun v3 => if v3 = (1 : Int32) then (mast σ 45 (((60 : Int32) * x1) + x2) x3.toInt16.toInt32).bind (fun σ5 => some ((1 : Int32), σ5)) else (mast σ 45 (((60 : Int32) * x1) + x2) x3).bind (fun σ4 => some ((1 : Int32), σ4)))) else some (v1, σ))
theorem wi_X4_write : wInfV yX4_write cX4_write 5 (Option.some Jvm.ClassFile.FieldType.int) 3 := ⟨q3059, q3060, q116, q3061, (by decide +kernel), (by decide +kernel), (by decide +kernel)⟩
set_option maxHeartbeats 4000000 in
set_option maxRecDepth 100000 in
theorem met_X4_write {l : Launch} {G : mG} {x1 : Int32} {x2 : Int32} {x3 : Int32} {σ : mS} {res : Int32 × mS} (hf : fX4_write x1 x2 x3 σ = some res) : mMet l yX4_write cX4_write 5 (Option.some Jvm.ClassFile.FieldType.int) (mRm 3 64) G [.ref (mo G), .int x1, .int x2, .int x3] σ (some (.int res.1)) res.2 := by
  replace hf : ((fX4_wrongAt x1 x2 σ).bind (fun v1 => if v1 = (0 : Int32) then (mald σ 43 x1).bind (fun v2 => if v2 = (0 : Int32) then (mast σ 45 (((60 : Int32) * x1) + x2) x3.toInt8.toInt32).bind (fun σ6 => some ((1 : Int32), σ6)) else (mald σ 43 x1).bind (fun v3 => if v3 = (1 : Int32) then (mast σ 45 (((60 : Int32) * x1) + x2) x3.toInt16.toInt32).bind (fun σ5 => some ((1 : Int32), σ5)) else (mast σ 45 (((60 : Int32) * x1) + x2) x3).bind (fun σ4 => some ((1 : Int32), σ4)))) else some (v1, σ))) = some res := hf
  refine m_start (by decide) rfl (Nat.le_of_ble_eq_true rfl) ?_
  intro p e s m args below meth c S hR hS ls hl
  obtain ⟨hx, hb, hml, hown, hts⟩ := S.1.1
  have hl : lv_has ls 5 [(0, .ref (mo G)), (1, .int x1), (2, .int x2), (3, .int x3)] := hl
  refine lv_aload_n hx hb dX4_write_0 rfl (lv_at hl 0 rfl) ?_
  refine lv_iload_n hx hb dX4_write_1 rfl (lv_at hl 1 rfl) ?_
  refine lv_iload_n hx hb dX4_write_2 rfl (lv_at hl 2 rfl) ?_
  refine k_bind hf (fun v1 hv1 hf => ?_)
  refine m_call (As := [.int x1, .int x2]) (rest := []) S hR hS (met_X4_wrongAt hv1) wi_X4_wrongAt rfl q3062 ⟨rfl, rfl⟩ ⟨Nat.le_of_ble_eq_true rfl, Nat.le_of_ble_eq_true rfl⟩ rfl hl.1 rfl (Nat.le_of_ble_eq_true rfl) dX4_write_3 (fun H locs hR hS => ?_)
  refine lv_istore (lv' := [(4, .int v1), (0, .ref (mo G)), (1, .int x1), (2, .int x2), (3, .int x3)]) hx hb dX4_write_6 hl (by decide) rfl (fun ls hl => ?_)
  refine lv_iload hx hb dX4_write_8 (lv_at hl 0 rfl) ?_
  refine lv_if_eq (tgt := 16) hx hb dX4_write_10 (by decide) (fun c_10 => ?_) (fun c_10 => ?_)
  · replace hf := o_t hf c_10
    refine lv_aload_n hx hb dX4_write_16 rfl (lv_at hl 1 rfl) ?_
    refine m_geta (k := 45) S hR (by decide) (by decide) q2571 dX4_write_17 ?_
    refine lv_bipush (v := 60) hx hb dX4_write_20 (by decide) ?_
    refine lv_iload_n hx hb dX4_write_22 rfl (lv_at hl 2 rfl) ?_
    refine lv_imul hx hb dX4_write_23 ?_
    refine lv_iload_n hx hb dX4_write_24 rfl (lv_at hl 3 rfl) ?_
    refine lv_iadd hx hb dX4_write_25 ?_
    refine lv_aload_n hx hb dX4_write_26 rfl (lv_at hl 1 rfl) ?_
    refine m_geta (k := 43) S hR (by decide) (by decide) q2569 dX4_write_27 ?_
    refine lv_iload_n hx hb dX4_write_30 rfl (lv_at hl 2 rfl) ?_
    refine k_bind hf (fun v2 hv2 hf => ?_)
    refine m_iald S hR hv2 dX4_write_31 ?_
    refine lv_if_ne (tgt := 40) hx hb dX4_write_32 (by decide) (fun c_32 => ?_) (fun c_32 => ?_)
    · replace hf := o_f hf c_32
      refine lv_aload_n hx hb dX4_write_40 rfl (lv_at hl 1 rfl) ?_
      refine m_geta (k := 43) S hR (by decide) (by decide) q2569 dX4_write_41 ?_
      refine lv_iload_n hx hb dX4_write_44 rfl (lv_at hl 2 rfl) ?_
      refine k_bind hf (fun v3 hv3 hf => ?_)
      refine m_iald S hR hv3 dX4_write_45 ?_
      refine lv_iconst (v := 1) hx hb dX4_write_46 (by decide) ?_
      refine lv_icmp_ne (tgt := 55) hx hb dX4_write_47 (by decide) (fun c_47 => ?_) (fun c_47 => ?_)
      · replace hf := o_f hf c_47
        refine lv_iload_n hx hb dX4_write_55 rfl (lv_at hl 4 rfl) ?_
        refine k_bind hf (fun σ4 hσ4 hf => ?_)
        refine m_iast S hR hS hσ4 dX4_write_56 (fun H locs hR hS => ?_)
        refine lv_iconst (v := 1) hx hb dX4_write_57 (by decide) ?_
        obtain rfl := Option.some.inj hf
        exact m_iret S hR hS rfl dX4_write_58
      · replace hf := o_t hf c_47
        refine lv_iload_n hx hb dX4_write_50 rfl (lv_at hl 4 rfl) ?_
        refine lv_i2s hx hb dX4_write_51 rfl ?_
        refine lv_goto (tgt := 56) hx hb dX4_write_52 (by decide) ?_
        refine k_bind hf (fun σ5 hσ5 hf => ?_)
        refine m_iast S hR hS hσ5 dX4_write_56 (fun H locs hR hS => ?_)
        refine lv_iconst (v := 1) hx hb dX4_write_57 (by decide) ?_
        obtain rfl := Option.some.inj hf
        exact m_iret S hR hS rfl dX4_write_58
    · replace hf := o_t hf c_32
      refine lv_iload_n hx hb dX4_write_35 rfl (lv_at hl 4 rfl) ?_
      refine lv_i2b hx hb dX4_write_36 rfl ?_
      refine lv_goto (tgt := 56) hx hb dX4_write_37 (by decide) ?_
      refine k_bind hf (fun σ6 hσ6 hf => ?_)
      refine m_iast S hR hS hσ6 dX4_write_56 (fun H locs hR hS => ?_)
      refine lv_iconst (v := 1) hx hb dX4_write_57 (by decide) ?_
      obtain rfl := Option.some.inj hf
      exact m_iret S hR hS rfl dX4_write_58
  · replace hf := o_f hf c_10
    refine lv_iload hx hb dX4_write_13 (lv_at hl 0 rfl) ?_
    obtain rfl := Option.some.inj hf
    exact m_iret S hR hS rfl dX4_write_15

noncomputable def fX4_item (x1 : Int32) (x2 : Int32) (σ : mS) : Option Int32 :=
  (fX4_wrongAt x1 x2 σ).bind (fun v1 => if v1 = (0 : Int32) then (mald σ 45 (((60 : Int32) * x1) + x2)).bind (fun v2 => some v2) else some v1)
theorem wi_X4_item : wInfV yX4_item cX4_item 4 (Option.some Jvm.ClassFile.FieldType.int) 2 := ⟨q3067, q3068, q116, q3069, (by decide +kernel), (by decide +kernel), (by decide +kernel)⟩
set_option maxHeartbeats 4000000 in
set_option maxRecDepth 100000 in
theorem met_X4_item {l : Launch} {G : mG} {x1 : Int32} {x2 : Int32} {σ : mS} {res : Int32} (hf : fX4_item x1 x2 σ = some res) : mMet l yX4_item cX4_item 4 (Option.some Jvm.ClassFile.FieldType.int) (mRm 3 64) G [.ref (mo G), .int x1, .int x2] σ (some (.int res)) σ := by
  replace hf : ((fX4_wrongAt x1 x2 σ).bind (fun v1 => if v1 = (0 : Int32) then (mald σ 45 (((60 : Int32) * x1) + x2)).bind (fun v2 => some v2) else some v1)) = some res := hf
  refine m_start (by decide) rfl (Nat.le_of_ble_eq_true rfl) ?_
  intro p e s m args below meth c S hR hS ls hl
  obtain ⟨hx, hb, hml, hown, hts⟩ := S.1.1
  have hl : lv_has ls 4 [(0, .ref (mo G)), (1, .int x1), (2, .int x2)] := hl
  refine lv_aload_n hx hb dX4_item_0 rfl (lv_at hl 0 rfl) ?_
  refine lv_iload_n hx hb dX4_item_1 rfl (lv_at hl 1 rfl) ?_
  refine lv_iload_n hx hb dX4_item_2 rfl (lv_at hl 2 rfl) ?_
  refine k_bind hf (fun v1 hv1 hf => ?_)
  refine m_call (As := [.int x1, .int x2]) (rest := []) S hR hS (met_X4_wrongAt hv1) wi_X4_wrongAt rfl q3062 ⟨rfl, rfl⟩ ⟨Nat.le_of_ble_eq_true rfl, Nat.le_of_ble_eq_true rfl⟩ rfl hl.1 rfl (Nat.le_of_ble_eq_true rfl) dX4_item_3 (fun H locs hR hS => ?_)
  refine lv_istore_n (lv' := [(3, .int v1), (0, .ref (mo G)), (1, .int x1), (2, .int x2)]) hx hb dX4_item_6 rfl hl (by decide) rfl (fun ls hl => ?_)
  refine lv_iload_n hx hb dX4_item_7 rfl (lv_at hl 0 rfl) ?_
  refine lv_if_eq (tgt := 15) hx hb dX4_item_8 (by decide) (fun c_8 => ?_) (fun c_8 => ?_)
  · replace hf := o_t hf c_8
    refine lv_aload_n hx hb dX4_item_15 rfl (lv_at hl 1 rfl) ?_
    refine m_geta (k := 45) S hR (by decide) (by decide) q2571 dX4_item_16 ?_
    refine lv_bipush (v := 60) hx hb dX4_item_19 (by decide) ?_
    refine lv_iload_n hx hb dX4_item_21 rfl (lv_at hl 2 rfl) ?_
    refine lv_imul hx hb dX4_item_22 ?_
    refine lv_iload_n hx hb dX4_item_23 rfl (lv_at hl 3 rfl) ?_
    refine lv_iadd hx hb dX4_item_24 ?_
    refine k_bind hf (fun v2 hv2 hf => ?_)
    refine m_iald S hR hv2 dX4_item_25 ?_
    obtain rfl := Option.some.inj hf
    exact m_iret S hR hS rfl dX4_item_26
  · replace hf := o_f hf c_8
    refine lv_iload_n hx hb dX4_item_11 rfl (lv_at hl 0 rfl) ?_
    refine lv_goto (tgt := 26) hx hb dX4_item_12 (by decide) ?_
    obtain rfl := Option.some.inj hf
    exact m_iret S hR hS rfl dX4_item_26

noncomputable def JX4_copy_152 (y1 : Int32) (y2 : Int32) (y3 : Int32) (y4 : Int32) (y5 : Int32) (y6 : Int32) (y7 : Int32) (z0 : Int32) (σ : mS) : Option ((Int32 × mS) ⊕ (mS)) :=
  (mald σ 45 ((((60 : Int32) * y1) + y2) + z0)).bind (fun v7 => (mast σ 45 ((((60 : Int32) * y3) + y4) + z0) v7).bind (fun σ8 => some (Sum.inl (y7 + (1 : Int32), σ8))))
noncomputable def LX4_copy_128 (y1 : Int32) (y2 : Int32) (y3 : Int32) (y4 : Int32) (y5 : Int32) (y6 : Int32) (q : Int32 × mS) : Option ((Int32 × mS) ⊕ (mS)) :=
  if y5 ≤ q.1 then some (Sum.inr q.2) else if y6 = (0 : Int32) then JX4_copy_152 y1 y2 y3 y4 y5 y6 q.1 q.1 q.2 else JX4_copy_152 y1 y2 y3 y4 y5 y6 q.1 ((y5 - (1 : Int32)) - q.1) q.2
noncomputable def JX4_copy_123 (y1 : Int32) (y2 : Int32) (y3 : Int32) (y4 : Int32) (y5 : Int32) (z0 : Int32) (σ : mS) : Option (Int32 × mS) :=
  (lpw (LX4_copy_128 y1 y2 y3 y4 y5 z0) ((0 : Int32), σ)).bind (fun b9 => some (y5, b9))
noncomputable def fX4_copy (x1 : Int32) (x2 : Int32) (x3 : Int32) (x4 : Int32) (x5 : Int32) (σ : mS) : Option (Int32 × mS) :=
  if (fX4_isSheet x1) = (0 : Int32) then some ((-2 : Int32), σ) else if (fX4_isSheet x3) = (0 : Int32) then some ((-2 : Int32), σ) else (mald σ 43 x1).bind (fun v1 => if v1 = (-1 : Int32) then some ((-11 : Int32), σ) else (mald σ 43 x3).bind (fun v2 => if v2 = (-1 : Int32) then some ((-11 : Int32), σ) else (mald σ 43 x1).bind (fun v3 => (mald σ 43 x3).bind (fun v4 => if v3 = v4 then if x5 < (0 : Int32) then some ((-12 : Int32), σ) else if x2 < (0 : Int32) then some ((-12 : Int32), σ) else if x4 < (0 : Int32) then some ((-12 : Int32), σ) else (mald σ 44 x1).bind (fun v5 => if (v5 - x5) < x2 then some ((-12 : Int32), σ) else (mald σ 44 x3).bind (fun v6 => if x4 ≤ (v6 - x5) then if (((60 : Int32) * x3) + x4) ≤ (((60 : Int32) * x1) + x2) then JX4_copy_123 x1 x2 x3 x4 x5 (0 : Int32) σ else JX4_copy_123 x1 x2 x3 x4 x5 (1 : Int32) σ else some ((-12 : Int32), σ))) else some ((-13 : Int32), σ)))))
theorem wi_X4_copy : wInfV yX4_copy cX4_copy 9 (Option.some Jvm.ClassFile.FieldType.int) 5 := ⟨q3071, q3072, q116, q3073, (by decide +kernel), (by decide +kernel), (by decide +kernel)⟩
set_option maxHeartbeats 4000000 in
set_option maxRecDepth 100000 in
theorem wJX4_copy_152 {l : Launch} {G : mG} {p : Program} {e : Env} {s : State} {m : MethodId} {args : Array Value} {below : List Frame} {meth : Method} {c : Code} {Q : State → Prop} {y1 : Int32} {y2 : Int32} {y3 : Int32} {y4 : Int32} {y5 : Int32} {y6 : Int32} {y7 : Int32} {z0 : Int32} {σ : mS} {res : (Int32 × mS) ⊕ (mS)} (S : mSt G p m c cX4_copy 9 s args meth (Option.some Jvm.ClassFile.FieldType.int)) (hf : JX4_copy_152 y1 y2 y3 y4 y5 y6 y7 z0 σ = some res) (hK : ∀ q, res = Sum.inl q → (∀ (H : Heap) (locs : List Loc) (ls : Array Slot), mR G q.2 H → va_S (mA G) s.heap H locs → lv_has ls 9 [(0, .ref (mo G)), (1, .int y1), (2, .int y2), (3, .int y3), (4, .int y4), (5, .int y5), (6, .int y6), (7, .int q.1)] → W p l e (mRm 2 42) s m args below meth c H locs 0 0 Q (F0 m 128 ls []))) (hE189 : ∀ b, res = Sum.inr b → (∀ (H : Heap) (locs : List Loc) (ls : Array Slot), mR G b H → va_S (mA G) s.heap H locs → lv_has ls 9 [(0, .ref (mo G)), (5, .int y5)] → W p l e (mRm 2 42) s m args below meth c H locs 0 0 Q (F0 m 189 ls []))) : ∀ (H : Heap) (locs : List Loc) (ls : Array Slot), mR G σ H → va_S (mA G) s.heap H locs → lv_has ls 9 [(0, .ref (mo G)), (1, .int y1), (2, .int y2), (3, .int y3), (4, .int y4), (5, .int y5), (6, .int y6), (7, .int y7)] → W p l e (mRm 2 42) s m args below meth c H locs 0 0 Q (F0 m 152 ls [.int z0]) := by
  replace hf : ((mald σ 45 ((((60 : Int32) * y1) + y2) + z0)).bind (fun v7 => (mast σ 45 ((((60 : Int32) * y3) + y4) + z0) v7).bind (fun σ8 => some (Sum.inl (y7 + (1 : Int32), σ8))))) = some res := hf
  obtain ⟨hx, hb, hml, hown, hts⟩ := S.1.1
  intro H locs ls hR hS hl
  refine lv_istore (lv' := [(8, .int z0), (0, .ref (mo G)), (1, .int y1), (2, .int y2), (3, .int y3), (4, .int y4), (5, .int y5), (6, .int y6), (7, .int y7)]) hx hb dX4_copy_152 hl (by decide) rfl (fun ls hl => ?_)
  refine lv_aload_n hx hb dX4_copy_154 rfl (lv_at hl 1 rfl) ?_
  refine m_geta (k := 45) S hR (by decide) (by decide) q2571 dX4_copy_155 ?_
  refine lv_bipush (v := 60) hx hb dX4_copy_158 (by decide) ?_
  refine lv_iload_n hx hb dX4_copy_160 rfl (lv_at hl 4 rfl) ?_
  refine lv_imul hx hb dX4_copy_161 ?_
  refine lv_iload hx hb dX4_copy_162 (lv_at hl 5 rfl) ?_
  refine lv_iadd hx hb dX4_copy_164 ?_
  refine lv_iload hx hb dX4_copy_165 (lv_at hl 0 rfl) ?_
  refine lv_iadd hx hb dX4_copy_167 ?_
  refine lv_aload_n hx hb dX4_copy_168 rfl (lv_at hl 1 rfl) ?_
  refine m_geta (k := 45) S hR (by decide) (by decide) q2571 dX4_copy_169 ?_
  refine lv_bipush (v := 60) hx hb dX4_copy_172 (by decide) ?_
  refine lv_iload_n hx hb dX4_copy_174 rfl (lv_at hl 2 rfl) ?_
  refine lv_imul hx hb dX4_copy_175 ?_
  refine lv_iload_n hx hb dX4_copy_176 rfl (lv_at hl 3 rfl) ?_
  refine lv_iadd hx hb dX4_copy_177 ?_
  refine lv_iload hx hb dX4_copy_178 (lv_at hl 0 rfl) ?_
  refine lv_iadd hx hb dX4_copy_180 ?_
  refine k_bind hf (fun v7 hv7 hf => ?_)
  refine m_iald S hR hv7 dX4_copy_181 ?_
  refine k_bind hf (fun σ8 hσ8 hf => ?_)
  refine m_iast S hR hS hσ8 dX4_copy_182 (fun H locs hR hS => ?_)
  refine lv_iinc (lv' := [(7, .int (y7 + (1 : Int32))), (8, .int z0), (0, .ref (mo G)), (1, .int y1), (2, .int y2), (3, .int y3), (4, .int y4), (5, .int y5), (6, .int y6)]) hx hb dX4_copy_183 hl (k := 8) rfl (m_inc (by decide)) (by decide) rfl (fun ls hl => ?_)
  refine lv_goto (tgt := 128) hx hb dX4_copy_186 (by decide) ?_
  exact hK _ (Option.some.inj hf).symm _ _ _ hR hS (lv_sub (l' := [(0, .ref (mo G)), (1, .int y1), (2, .int y2), (3, .int y3), (4, .int y4), (5, .int y5), (6, .int y6), (7, .int (y7 + (1 : Int32)))]) hl [2, 3, 4, 5, 6, 7, 8, 0] rfl)
set_option maxHeartbeats 4000000 in
set_option maxRecDepth 100000 in
theorem wbLX4_copy_128 {l : Launch} {G : mG} {p : Program} {e : Env} {s : State} {m : MethodId} {args : Array Value} {below : List Frame} {meth : Method} {c : Code} {Q : State → Prop} {y1 : Int32} {y2 : Int32} {y3 : Int32} {y4 : Int32} {y5 : Int32} {y6 : Int32} {q : Int32 × mS} {res : (Int32 × mS) ⊕ (mS)} (S : mSt G p m c cX4_copy 9 s args meth (Option.some Jvm.ClassFile.FieldType.int)) (hf : LX4_copy_128 y1 y2 y3 y4 y5 y6 q = some res) (hK : ∀ q, res = Sum.inl q → (∀ (H : Heap) (locs : List Loc) (ls : Array Slot), mR G q.2 H → va_S (mA G) s.heap H locs → lv_has ls 9 [(0, .ref (mo G)), (1, .int y1), (2, .int y2), (3, .int y3), (4, .int y4), (5, .int y5), (6, .int y6), (7, .int q.1)] → W p l e (mRm 2 42) s m args below meth c H locs 0 0 Q (F0 m 128 ls []))) (hE189 : ∀ b, res = Sum.inr b → (∀ (H : Heap) (locs : List Loc) (ls : Array Slot), mR G b H → va_S (mA G) s.heap H locs → lv_has ls 9 [(0, .ref (mo G)), (5, .int y5)] → W p l e (mRm 2 42) s m args below meth c H locs 0 0 Q (F0 m 189 ls []))) : (∀ (H : Heap) (locs : List Loc) (ls : Array Slot), mR G q.2 H → va_S (mA G) s.heap H locs → lv_has ls 9 [(0, .ref (mo G)), (1, .int y1), (2, .int y2), (3, .int y3), (4, .int y4), (5, .int y5), (6, .int y6), (7, .int q.1)] → W p l e (mRm 2 42) s m args below meth c H locs 0 0 Q (F0 m 128 ls [])) := by
  replace hf : (if y5 ≤ q.1 then some (Sum.inr q.2) else if y6 = (0 : Int32) then JX4_copy_152 y1 y2 y3 y4 y5 y6 q.1 q.1 q.2 else JX4_copy_152 y1 y2 y3 y4 y5 y6 q.1 ((y5 - (1 : Int32)) - q.1) q.2) = some res := hf
  obtain ⟨hx, hb, hml, hown, hts⟩ := S.1.1
  intro H locs ls hR hS hl
  refine lv_iload hx hb dX4_copy_128 (lv_at hl 7 rfl) ?_
  refine lv_iload hx hb dX4_copy_130 (lv_at hl 5 rfl) ?_
  refine lv_icmp_ge (tgt := 189) hx hb dX4_copy_132 (by decide) (fun c_132 => ?_) (fun c_132 => ?_)
  · replace hf := o_t hf c_132
    exact hE189 _ (Option.some.inj hf).symm _ _ _ hR hS (lv_sub (l' := [(0, .ref (mo G)), (5, .int y5)]) hl [0, 5] rfl)
  · replace hf := o_f hf c_132
    refine lv_iload hx hb dX4_copy_135 (lv_at hl 6 rfl) ?_
    refine lv_if_eq (tgt := 150) hx hb dX4_copy_137 (by decide) (fun c_137 => ?_) (fun c_137 => ?_)
    · replace hf := o_t hf c_137
      refine lv_iload hx hb dX4_copy_150 (lv_at hl 7 rfl) ?_
      exact wJX4_copy_152 S hf hK hE189 _ _ _ hR hS hl
    · replace hf := o_f hf c_137
      refine lv_iload hx hb dX4_copy_140 (lv_at hl 5 rfl) ?_
      refine lv_iconst (v := 1) hx hb dX4_copy_142 (by decide) ?_
      refine lv_isub hx hb dX4_copy_143 ?_
      refine lv_iload hx hb dX4_copy_144 (lv_at hl 7 rfl) ?_
      refine lv_isub hx hb dX4_copy_146 ?_
      refine lv_goto (tgt := 152) hx hb dX4_copy_147 (by decide) ?_
      exact wJX4_copy_152 S hf hK hE189 _ _ _ hR hS hl
set_option maxHeartbeats 4000000 in
set_option maxRecDepth 100000 in
theorem wLX4_copy_128 {l : Launch} {G : mG} {p : Program} {e : Env} {s : State} {m : MethodId} {args : Array Value} {below : List Frame} {meth : Method} {c : Code} {Q : State → Prop} {y1 : Int32} {y2 : Int32} {y3 : Int32} {y4 : Int32} {y5 : Int32} {y6 : Int32} {q : Int32 × mS} {res : mS} (S : mSt G p m c cX4_copy 9 s args meth (Option.some Jvm.ClassFile.FieldType.int)) (h : lpw (LX4_copy_128 y1 y2 y3 y4 y5 y6) q = some res) (hE189 : ∀ b, res = b → (∀ (H : Heap) (locs : List Loc) (ls : Array Slot), mR G b H → va_S (mA G) s.heap H locs → lv_has ls 9 [(0, .ref (mo G)), (5, .int y5)] → W p l e (mRm 2 42) s m args below meth c H locs 0 0 Q (F0 m 189 ls []))) : (∀ (H : Heap) (locs : List Loc) (ls : Array Slot), mR G q.2 H → va_S (mA G) s.heap H locs → lv_has ls 9 [(0, .ref (mo G)), (1, .int y1), (2, .int y2), (3, .int y3), (4, .int y4), (5, .int y5), (6, .int y6), (7, .int q.1)] → W p l e (mRm 2 42) s m args below meth c H locs 0 0 Q (F0 m 128 ls [])) :=
  lpw_go _ (fun q => (∀ (H : Heap) (locs : List Loc) (ls : Array Slot), mR G q.2 H → va_S (mA G) s.heap H locs → lv_has ls 9 [(0, .ref (mo G)), (1, .int y1), (2, .int y2), (3, .int y3), (4, .int y4), (5, .int y5), (6, .int y6), (7, .int q.1)] → W p l e (mRm 2 42) s m args below meth c H locs 0 0 Q (F0 m 128 ls []))) (fun b0 => (∀ b, b0 = b → (∀ (H : Heap) (locs : List Loc) (ls : Array Slot), mR G b H → va_S (mA G) s.heap H locs → lv_has ls 9 [(0, .ref (mo G)), (5, .int y5)] → W p l e (mRm 2 42) s m args below meth c H locs 0 0 Q (F0 m 189 ls [])))) (fun q x hf hK hX => wbLX4_copy_128 S hf hK (fun b eb => (hX _ eb) b rfl)) q res h hE189
set_option maxHeartbeats 4000000 in
set_option maxRecDepth 100000 in
theorem wJX4_copy_123 {l : Launch} {G : mG} {p : Program} {e : Env} {s : State} {m : MethodId} {args : Array Value} {below : List Frame} {meth : Method} {c : Code} {y1 : Int32} {y2 : Int32} {y3 : Int32} {y4 : Int32} {y5 : Int32} {z0 : Int32} {σ : mS} {res : Int32 × mS} (S : mSt G p m c cX4_copy 9 s args meth (Option.some Jvm.ClassFile.FieldType.int)) (hf : JX4_copy_123 y1 y2 y3 y4 y5 z0 σ = some res) : ∀ (H : Heap) (locs : List Loc) (ls : Array Slot), mR G σ H → va_S (mA G) s.heap H locs → lv_has ls 9 [(0, .ref (mo G)), (1, .int y1), (2, .int y2), (3, .int y3), (4, .int y4), (5, .int y5)] → W p l e (mRm 2 42) s m args below meth c H locs 0 0 (MQ below (mQ G (some (.int res.1)) res.2) args s 0 0 (mA G)) (F0 m 123 ls [.int z0]) := by
  replace hf : ((lpw (LX4_copy_128 y1 y2 y3 y4 y5 z0) ((0 : Int32), σ)).bind (fun b9 => some (y5, b9))) = some res := hf
  obtain ⟨hx, hb, hml, hown, hts⟩ := S.1.1
  intro H locs ls hR hS hl
  refine lv_istore (lv' := [(6, .int z0), (0, .ref (mo G)), (1, .int y1), (2, .int y2), (3, .int y3), (4, .int y4), (5, .int y5)]) hx hb dX4_copy_123 hl (by decide) rfl (fun ls hl => ?_)
  refine lv_iconst (v := 0) hx hb dX4_copy_125 (by decide) ?_
  refine lv_istore (lv' := [(7, .int (0 : Int32)), (6, .int z0), (0, .ref (mo G)), (1, .int y1), (2, .int y2), (3, .int y3), (4, .int y4), (5, .int y5)]) hx hb dX4_copy_126 hl (by decide) rfl (fun ls hl => ?_)
  refine k_bind hf (fun b9 hb9 hf => ?_)
  refine wLX4_copy_128 S hb9 ?_ _ _ _ hR hS (lv_sub (l' := [(0, .ref (mo G)), (1, .int y1), (2, .int y2), (3, .int y3), (4, .int y4), (5, .int y5), (6, .int z0), (7, .int (0 : Int32))]) hl [2, 3, 4, 5, 6, 7, 1, 0] rfl)
  · intro b eb; subst eb; intro H locs ls hR hS hl
    refine lv_iload hx hb dX4_copy_189 (lv_at hl 1 rfl) ?_
    obtain rfl := Option.some.inj hf
    exact m_iret S hR hS rfl dX4_copy_191
set_option maxHeartbeats 4000000 in
set_option maxRecDepth 100000 in
theorem met_X4_copy {l : Launch} {G : mG} {x1 : Int32} {x2 : Int32} {x3 : Int32} {x4 : Int32} {x5 : Int32} {σ : mS} {res : Int32 × mS} (hf : fX4_copy x1 x2 x3 x4 x5 σ = some res) : mMet l yX4_copy cX4_copy 9 (Option.some Jvm.ClassFile.FieldType.int) (mRm 2 42) G [.ref (mo G), .int x1, .int x2, .int x3, .int x4, .int x5] σ (some (.int res.1)) res.2 := by
  replace hf : (if (fX4_isSheet x1) = (0 : Int32) then some ((-2 : Int32), σ) else if (fX4_isSheet x3) = (0 : Int32) then some ((-2 : Int32), σ) else (mald σ 43 x1).bind (fun v1 => if v1 = (-1 : Int32) then some ((-11 : Int32), σ) else (mald σ 43 x3).bind (fun v2 => if v2 = (-1 : Int32) then some ((-11 : Int32), σ) else (mald σ 43 x1).bind (fun v3 => (mald σ 43 x3).bind (fun v4 => if v3 = v4 then if x5 < (0 : Int32) then some ((-12 : Int32), σ) else if x2 < (0 : Int32) then some ((-12 : Int32), σ) else if x4 < (0 : Int32) then some ((-12 : Int32), σ) else (mald σ 44 x1).bind (fun v5 => if (v5 - x5) < x2 then some ((-12 : Int32), σ) else (mald σ 44 x3).bind (fun v6 => if x4 ≤ (v6 - x5) then if (((60 : Int32) * x3) + x4) ≤ (((60 : Int32) * x1) + x2) then JX4_copy_123 x1 x2 x3 x4 x5 (0 : Int32) σ else JX4_copy_123 x1 x2 x3 x4 x5 (1 : Int32) σ else some ((-12 : Int32), σ))) else some ((-13 : Int32), σ)))))) = some res := hf
  refine m_start (by decide) rfl (Nat.le_of_ble_eq_true rfl) ?_
  intro p e s m args below meth c S hR hS ls hl
  obtain ⟨hx, hb, hml, hown, hts⟩ := S.1.1
  have hl : lv_has ls 9 [(0, .ref (mo G)), (1, .int x1), (2, .int x2), (3, .int x3), (4, .int x4), (5, .int x5)] := hl
  refine lv_iload_n hx hb dX4_copy_0 rfl (lv_at hl 1 rfl) ?_
  refine s_call (As := [.int x1]) (rest := []) S.1.1 (met_X4_isSheet rfl) wi_X4_isSheet q2893 ⟨rfl, rfl⟩ ⟨Nat.le_of_ble_eq_true rfl, Nat.le_of_ble_eq_true rfl⟩ rfl hl.1 rfl (Nat.le_of_ble_eq_true rfl) dX4_copy_1 ⟨Nat.zero_le _, Nat.zero_le _⟩ ?_
  refine lv_if_eq (tgt := 14) hx hb dX4_copy_4 (by decide) (fun c_4 => ?_) (fun c_4 => ?_)
  · replace hf := o_t hf c_4
    refine lv_bipush (v := -2) hx hb dX4_copy_14 (by decide) ?_
    obtain rfl := Option.some.inj hf
    exact m_iret S hR hS rfl dX4_copy_16
  · replace hf := o_f hf c_4
    refine lv_iload_n hx hb dX4_copy_7 rfl (lv_at hl 3 rfl) ?_
    refine s_call (As := [.int x3]) (rest := []) S.1.1 (met_X4_isSheet rfl) wi_X4_isSheet q2893 ⟨rfl, rfl⟩ ⟨Nat.le_of_ble_eq_true rfl, Nat.le_of_ble_eq_true rfl⟩ rfl hl.1 rfl (Nat.le_of_ble_eq_true rfl) dX4_copy_8 ⟨Nat.zero_le _, Nat.zero_le _⟩ ?_
    refine lv_if_ne (tgt := 17) hx hb dX4_copy_11 (by decide) (fun c_11 => ?_) (fun c_11 => ?_)
    · replace hf := o_f hf c_11
      refine lv_aload_n hx hb dX4_copy_17 rfl (lv_at hl 0 rfl) ?_
      refine m_geta (k := 43) S hR (by decide) (by decide) q2569 dX4_copy_18 ?_
      refine lv_iload_n hx hb dX4_copy_21 rfl (lv_at hl 1 rfl) ?_
      refine k_bind hf (fun v1 hv1 hf => ?_)
      refine m_iald S hR hv1 dX4_copy_22 ?_
      refine lv_iconst (v := -1) hx hb dX4_copy_23 (by decide) ?_
      refine lv_icmp_eq (tgt := 37) hx hb dX4_copy_24 (by decide) (fun c_24 => ?_) (fun c_24 => ?_)
      · replace hf := o_t hf c_24
        refine lv_bipush (v := -11) hx hb dX4_copy_37 (by decide) ?_
        obtain rfl := Option.some.inj hf
        exact m_iret S hR hS rfl dX4_copy_39
      · replace hf := o_f hf c_24
        refine lv_aload_n hx hb dX4_copy_27 rfl (lv_at hl 0 rfl) ?_
        refine m_geta (k := 43) S hR (by decide) (by decide) q2569 dX4_copy_28 ?_
        refine lv_iload_n hx hb dX4_copy_31 rfl (lv_at hl 3 rfl) ?_
        refine k_bind hf (fun v2 hv2 hf => ?_)
        refine m_iald S hR hv2 dX4_copy_32 ?_
        refine lv_iconst (v := -1) hx hb dX4_copy_33 (by decide) ?_
        refine lv_icmp_ne (tgt := 40) hx hb dX4_copy_34 (by decide) (fun c_34 => ?_) (fun c_34 => ?_)
        · replace hf := o_f hf c_34
          refine lv_aload_n hx hb dX4_copy_40 rfl (lv_at hl 0 rfl) ?_
          refine m_geta (k := 43) S hR (by decide) (by decide) q2569 dX4_copy_41 ?_
          refine lv_iload_n hx hb dX4_copy_44 rfl (lv_at hl 1 rfl) ?_
          refine k_bind hf (fun v3 hv3 hf => ?_)
          refine m_iald S hR hv3 dX4_copy_45 ?_
          refine lv_aload_n hx hb dX4_copy_46 rfl (lv_at hl 0 rfl) ?_
          refine m_geta (k := 43) S hR (by decide) (by decide) q2569 dX4_copy_47 ?_
          refine lv_iload_n hx hb dX4_copy_50 rfl (lv_at hl 3 rfl) ?_
          refine k_bind hf (fun v4 hv4 hf => ?_)
          refine m_iald S hR hv4 dX4_copy_51 ?_
          refine lv_icmp_eq (tgt := 58) hx hb dX4_copy_52 (by decide) (fun c_52 => ?_) (fun c_52 => ?_)
          · replace hf := o_t hf c_52
            refine lv_iload hx hb dX4_copy_58 (lv_at hl 5 rfl) ?_
            refine lv_if_lt (tgt := 99) hx hb dX4_copy_60 (by decide) (fun c_60 => ?_) (fun c_60 => ?_)
            · replace hf := o_t hf c_60
              refine lv_bipush (v := -12) hx hb dX4_copy_99 (by decide) ?_
              obtain rfl := Option.some.inj hf
              exact m_iret S hR hS rfl dX4_copy_101
            · replace hf := o_f hf c_60
              refine lv_iload_n hx hb dX4_copy_63 rfl (lv_at hl 2 rfl) ?_
              refine lv_if_lt (tgt := 99) hx hb dX4_copy_64 (by decide) (fun c_64 => ?_) (fun c_64 => ?_)
              · replace hf := o_t hf c_64
                refine lv_bipush (v := -12) hx hb dX4_copy_99 (by decide) ?_
                obtain rfl := Option.some.inj hf
                exact m_iret S hR hS rfl dX4_copy_101
              · replace hf := o_f hf c_64
                refine lv_iload hx hb dX4_copy_67 (lv_at hl 4 rfl) ?_
                refine lv_if_lt (tgt := 99) hx hb dX4_copy_69 (by decide) (fun c_69 => ?_) (fun c_69 => ?_)
                · replace hf := o_t hf c_69
                  refine lv_bipush (v := -12) hx hb dX4_copy_99 (by decide) ?_
                  obtain rfl := Option.some.inj hf
                  exact m_iret S hR hS rfl dX4_copy_101
                · replace hf := o_f hf c_69
                  refine lv_iload_n hx hb dX4_copy_72 rfl (lv_at hl 2 rfl) ?_
                  refine lv_aload_n hx hb dX4_copy_73 rfl (lv_at hl 0 rfl) ?_
                  refine m_geta (k := 44) S hR (by decide) (by decide) q2570 dX4_copy_74 ?_
                  refine lv_iload_n hx hb dX4_copy_77 rfl (lv_at hl 1 rfl) ?_
                  refine k_bind hf (fun v5 hv5 hf => ?_)
                  refine m_iald S hR hv5 dX4_copy_78 ?_
                  refine lv_iload hx hb dX4_copy_79 (lv_at hl 5 rfl) ?_
                  refine lv_isub hx hb dX4_copy_81 ?_
                  refine lv_icmp_gt (tgt := 99) hx hb dX4_copy_82 (by decide) (fun c_82 => ?_) (fun c_82 => ?_)
                  · replace hf := o_t hf c_82
                    refine lv_bipush (v := -12) hx hb dX4_copy_99 (by decide) ?_
                    obtain rfl := Option.some.inj hf
                    exact m_iret S hR hS rfl dX4_copy_101
                  · replace hf := o_f hf c_82
                    refine lv_iload hx hb dX4_copy_85 (lv_at hl 4 rfl) ?_
                    refine lv_aload_n hx hb dX4_copy_87 rfl (lv_at hl 0 rfl) ?_
                    refine m_geta (k := 44) S hR (by decide) (by decide) q2570 dX4_copy_88 ?_
                    refine lv_iload_n hx hb dX4_copy_91 rfl (lv_at hl 3 rfl) ?_
                    refine k_bind hf (fun v6 hv6 hf => ?_)
                    refine m_iald S hR hv6 dX4_copy_92 ?_
                    refine lv_iload hx hb dX4_copy_93 (lv_at hl 5 rfl) ?_
                    refine lv_isub hx hb dX4_copy_95 ?_
                    refine lv_icmp_le (tgt := 102) hx hb dX4_copy_96 (by decide) (fun c_96 => ?_) (fun c_96 => ?_)
                    · replace hf := o_t hf c_96
                      refine lv_bipush (v := 60) hx hb dX4_copy_102 (by decide) ?_
                      refine lv_iload_n hx hb dX4_copy_104 rfl (lv_at hl 1 rfl) ?_
                      refine lv_imul hx hb dX4_copy_105 ?_
                      refine lv_iload_n hx hb dX4_copy_106 rfl (lv_at hl 2 rfl) ?_
                      refine lv_iadd hx hb dX4_copy_107 ?_
                      refine lv_bipush (v := 60) hx hb dX4_copy_108 (by decide) ?_
                      refine lv_iload_n hx hb dX4_copy_110 rfl (lv_at hl 3 rfl) ?_
                      refine lv_imul hx hb dX4_copy_111 ?_
                      refine lv_iload hx hb dX4_copy_112 (lv_at hl 4 rfl) ?_
                      refine lv_iadd hx hb dX4_copy_114 ?_
                      refine lv_icmp_ge (tgt := 122) hx hb dX4_copy_115 (by decide) (fun c_115 => ?_) (fun c_115 => ?_)
                      · replace hf := o_t hf c_115
                        refine lv_iconst (v := 0) hx hb dX4_copy_122 (by decide) ?_
                        exact wJX4_copy_123 S hf _ _ _ hR hS hl
                      · replace hf := o_f hf c_115
                        refine lv_iconst (v := 1) hx hb dX4_copy_118 (by decide) ?_
                        refine lv_goto (tgt := 123) hx hb dX4_copy_119 (by decide) ?_
                        exact wJX4_copy_123 S hf _ _ _ hR hS hl
                    · replace hf := o_f hf c_96
                      refine lv_bipush (v := -12) hx hb dX4_copy_99 (by decide) ?_
                      obtain rfl := Option.some.inj hf
                      exact m_iret S hR hS rfl dX4_copy_101
          · replace hf := o_f hf c_52
            refine lv_bipush (v := -13) hx hb dX4_copy_55 (by decide) ?_
            obtain rfl := Option.some.inj hf
            exact m_iret S hR hS rfl dX4_copy_57
        · replace hf := o_t hf c_34
          refine lv_bipush (v := -11) hx hb dX4_copy_37 (by decide) ?_
          obtain rfl := Option.some.inj hf
          exact m_iret S hR hS rfl dX4_copy_39
    · replace hf := o_t hf c_11
      refine lv_bipush (v := -2) hx hb dX4_copy_14 (by decide) ?_
      obtain rfl := Option.some.inj hf
      exact m_iret S hR hS rfl dX4_copy_16

noncomputable def LX4_load_25 (y1 : Int32) (q : Int32 × mS) : Option ((Int32 × mS) ⊕ (Int32 × mS)) :=
  (mald q.2 44 y1).bind (fun v2 => if v2 ≤ q.1 then some (Sum.inr (q.1, q.2)) else if (q.2.1 0) ≤ q.1 then some (Sum.inr (q.1, q.2)) else (mald q.2 45 (((60 : Int32) * y1) + q.1)).bind (fun v3 => if (fX4_in v3 (1 : Int32) (9 : Int32)) = (0 : Int32) then some (Sum.inr (q.1, q.2)) else (mald q.2 45 (((60 : Int32) * y1) + q.1)).bind (fun v4 => (mast q.2 3 q.1 v4).bind (fun σ5 => some (Sum.inl (q.1 + (1 : Int32), σ5))))))
noncomputable def fX4_load (x1 : Int32) (σ : mS) : Option (Int32 × mS) :=
  if (fX4_isSheet x1) = (0 : Int32) then some ((-2 : Int32), σ) else (mald σ 43 x1).bind (fun v1 => if v1 = (-1 : Int32) then some ((-11 : Int32), σ) else (lpw (LX4_load_25 x1) ((0 : Int32), σ)).bind (fun b6 => some (b6.1, b6.2)))
theorem wi_X4_load : wInfV yX4_load cX4_load 3 (Option.some Jvm.ClassFile.FieldType.int) 1 := ⟨q3075, q3076, q116, q3077, (by decide +kernel), (by decide +kernel), (by decide +kernel)⟩
set_option maxHeartbeats 4000000 in
set_option maxRecDepth 100000 in
theorem wbLX4_load_25 {l : Launch} {G : mG} {p : Program} {e : Env} {s : State} {m : MethodId} {args : Array Value} {below : List Frame} {meth : Method} {c : Code} {Q : State → Prop} {y1 : Int32} {q : Int32 × mS} {res : (Int32 × mS) ⊕ (Int32 × mS)} (S : mSt G p m c cX4_load 3 s args meth (Option.some Jvm.ClassFile.FieldType.int)) (hf : LX4_load_25 y1 q = some res) (hK : ∀ q, res = Sum.inl q → (∀ (H : Heap) (locs : List Loc) (ls : Array Slot), mR G q.2 H → va_S (mA G) s.heap H locs → lv_has ls 3 [(0, .ref (mo G)), (1, .int y1), (2, .int q.1)] → W p l e (mRm 2 42) s m args below meth c H locs 0 0 Q (F0 m 25 ls []))) (hE86 : ∀ b, res = Sum.inr b → (∀ (H : Heap) (locs : List Loc) (ls : Array Slot), mR G b.2 H → va_S (mA G) s.heap H locs → lv_has ls 3 [(0, .ref (mo G)), (2, .int b.1)] → W p l e (mRm 2 42) s m args below meth c H locs 0 0 Q (F0 m 86 ls []))) : (∀ (H : Heap) (locs : List Loc) (ls : Array Slot), mR G q.2 H → va_S (mA G) s.heap H locs → lv_has ls 3 [(0, .ref (mo G)), (1, .int y1), (2, .int q.1)] → W p l e (mRm 2 42) s m args below meth c H locs 0 0 Q (F0 m 25 ls [])) := by
  replace hf : ((mald q.2 44 y1).bind (fun v2 => if v2 ≤ q.1 then some (Sum.inr (q.1, q.2)) else if (q.2.1 0) ≤ q.1 then some (Sum.inr (q.1, q.2)) else (mald q.2 45 (((60 : Int32) * y1) + q.1)).bind (fun v3 => if (fX4_in v3 (1 : Int32) (9 : Int32)) = (0 : Int32) then some (Sum.inr (q.1, q.2)) else (mald q.2 45 (((60 : Int32) * y1) + q.1)).bind (fun v4 => (mast q.2 3 q.1 v4).bind (fun σ5 => some (Sum.inl (q.1 + (1 : Int32), σ5))))))) = some res := hf
  obtain ⟨hx, hb, hml, hown, hts⟩ := S.1.1
  intro H locs ls hR hS hl
  refine lv_iload_n hx hb dX4_load_25 rfl (lv_at hl 2 rfl) ?_
  refine lv_aload_n hx hb dX4_load_26 rfl (lv_at hl 0 rfl) ?_
  refine m_geta (k := 44) S hR (by decide) (by decide) q2570 dX4_load_27 ?_
  refine lv_iload_n hx hb dX4_load_30 rfl (lv_at hl 1 rfl) ?_
  refine k_bind hf (fun v2 hv2 hf => ?_)
  refine m_iald S hR hv2 dX4_load_31 ?_
  refine lv_icmp_ge (tgt := 86) hx hb dX4_load_32 (by decide) (fun c_32 => ?_) (fun c_32 => ?_)
  · replace hf := o_t hf c_32
    exact hE86 _ (Option.some.inj hf).symm _ _ _ hR hS (lv_sub (l' := [(0, .ref (mo G)), (2, .int q.1)]) hl [0, 2] rfl)
  · replace hf := o_f hf c_32
    refine lv_iload_n hx hb dX4_load_35 rfl (lv_at hl 2 rfl) ?_
    refine lv_aload_n hx hb dX4_load_36 rfl (lv_at hl 0 rfl) ?_
    refine m_geti (k := 0) S hR (by decide) (by decide) q2526 dX4_load_37 ?_
    refine lv_icmp_ge (tgt := 86) hx hb dX4_load_40 (by decide) (fun c_40 => ?_) (fun c_40 => ?_)
    · replace hf := o_t hf c_40
      exact hE86 _ (Option.some.inj hf).symm _ _ _ hR hS (lv_sub (l' := [(0, .ref (mo G)), (2, .int q.1)]) hl [0, 2] rfl)
    · replace hf := o_f hf c_40
      refine lv_aload_n hx hb dX4_load_43 rfl (lv_at hl 0 rfl) ?_
      refine m_geta (k := 45) S hR (by decide) (by decide) q2571 dX4_load_44 ?_
      refine lv_bipush (v := 60) hx hb dX4_load_47 (by decide) ?_
      refine lv_iload_n hx hb dX4_load_49 rfl (lv_at hl 1 rfl) ?_
      refine lv_imul hx hb dX4_load_50 ?_
      refine lv_iload_n hx hb dX4_load_51 rfl (lv_at hl 2 rfl) ?_
      refine lv_iadd hx hb dX4_load_52 ?_
      refine k_bind hf (fun v3 hv3 hf => ?_)
      refine m_iald S hR hv3 dX4_load_53 ?_
      refine lv_iconst (v := 1) hx hb dX4_load_54 (by decide) ?_
      refine lv_bipush (v := 9) hx hb dX4_load_55 (by decide) ?_
      refine s_call (As := [.int v3, .int (1 : Int32), .int (9 : Int32)]) (rest := []) S.1.1 (met_X4_in rfl) wi_X4_in q2681 ⟨rfl, rfl⟩ ⟨Nat.le_of_ble_eq_true rfl, Nat.le_of_ble_eq_true rfl⟩ rfl hl.1 rfl (Nat.le_of_ble_eq_true rfl) dX4_load_57 ⟨Nat.zero_le _, Nat.zero_le _⟩ ?_
      refine lv_if_eq (tgt := 86) hx hb dX4_load_60 (by decide) (fun c_60 => ?_) (fun c_60 => ?_)
      · replace hf := o_t hf c_60
        exact hE86 _ (Option.some.inj hf).symm _ _ _ hR hS (lv_sub (l' := [(0, .ref (mo G)), (2, .int q.1)]) hl [0, 2] rfl)
      · replace hf := o_f hf c_60
        refine lv_aload_n hx hb dX4_load_63 rfl (lv_at hl 0 rfl) ?_
        refine m_geta (k := 3) S hR (by decide) (by decide) q2529 dX4_load_64 ?_
        refine lv_iload_n hx hb dX4_load_67 rfl (lv_at hl 2 rfl) ?_
        refine lv_aload_n hx hb dX4_load_68 rfl (lv_at hl 0 rfl) ?_
        refine m_geta (k := 45) S hR (by decide) (by decide) q2571 dX4_load_69 ?_
        refine lv_bipush (v := 60) hx hb dX4_load_72 (by decide) ?_
        refine lv_iload_n hx hb dX4_load_74 rfl (lv_at hl 1 rfl) ?_
        refine lv_imul hx hb dX4_load_75 ?_
        refine lv_iload_n hx hb dX4_load_76 rfl (lv_at hl 2 rfl) ?_
        refine lv_iadd hx hb dX4_load_77 ?_
        refine k_bind hf (fun v4 hv4 hf => ?_)
        refine m_iald S hR hv4 dX4_load_78 ?_
        refine k_bind hf (fun σ5 hσ5 hf => ?_)
        refine m_iast S hR hS hσ5 dX4_load_79 (fun H locs hR hS => ?_)
        refine lv_iinc (lv' := [(2, .int (q.1 + (1 : Int32))), (0, .ref (mo G)), (1, .int y1)]) hx hb dX4_load_80 hl (k := 2) rfl (m_inc (by decide)) (by decide) rfl (fun ls hl => ?_)
        refine lv_goto (tgt := 25) hx hb dX4_load_83 (by decide) ?_
        exact hK _ (Option.some.inj hf).symm _ _ _ hR hS (lv_sub (l' := [(0, .ref (mo G)), (1, .int y1), (2, .int (q.1 + (1 : Int32)))]) hl [1, 2, 0] rfl)
set_option maxHeartbeats 4000000 in
set_option maxRecDepth 100000 in
theorem wLX4_load_25 {l : Launch} {G : mG} {p : Program} {e : Env} {s : State} {m : MethodId} {args : Array Value} {below : List Frame} {meth : Method} {c : Code} {Q : State → Prop} {y1 : Int32} {q : Int32 × mS} {res : Int32 × mS} (S : mSt G p m c cX4_load 3 s args meth (Option.some Jvm.ClassFile.FieldType.int)) (h : lpw (LX4_load_25 y1) q = some res) (hE86 : ∀ b, res = b → (∀ (H : Heap) (locs : List Loc) (ls : Array Slot), mR G b.2 H → va_S (mA G) s.heap H locs → lv_has ls 3 [(0, .ref (mo G)), (2, .int b.1)] → W p l e (mRm 2 42) s m args below meth c H locs 0 0 Q (F0 m 86 ls []))) : (∀ (H : Heap) (locs : List Loc) (ls : Array Slot), mR G q.2 H → va_S (mA G) s.heap H locs → lv_has ls 3 [(0, .ref (mo G)), (1, .int y1), (2, .int q.1)] → W p l e (mRm 2 42) s m args below meth c H locs 0 0 Q (F0 m 25 ls [])) :=
  lpw_go _ (fun q => (∀ (H : Heap) (locs : List Loc) (ls : Array Slot), mR G q.2 H → va_S (mA G) s.heap H locs → lv_has ls 3 [(0, .ref (mo G)), (1, .int y1), (2, .int q.1)] → W p l e (mRm 2 42) s m args below meth c H locs 0 0 Q (F0 m 25 ls []))) (fun b0 => (∀ b, b0 = b → (∀ (H : Heap) (locs : List Loc) (ls : Array Slot), mR G b.2 H → va_S (mA G) s.heap H locs → lv_has ls 3 [(0, .ref (mo G)), (2, .int b.1)] → W p l e (mRm 2 42) s m args below meth c H locs 0 0 Q (F0 m 86 ls [])))) (fun q x hf hK hX => wbLX4_load_25 S hf hK (fun b eb => (hX _ eb) b rfl)) q res h hE86
set_option maxHeartbeats 4000000 in
set_option maxRecDepth 100000 in
theorem met_X4_load {l : Launch} {G : mG} {x1 : Int32} {σ : mS} {res : Int32 × mS} (hf : fX4_load x1 σ = some res) : mMet l yX4_load cX4_load 3 (Option.some Jvm.ClassFile.FieldType.int) (mRm 2 42) G [.ref (mo G), .int x1] σ (some (.int res.1)) res.2 := by
  replace hf : (if (fX4_isSheet x1) = (0 : Int32) then some ((-2 : Int32), σ) else (mald σ 43 x1).bind (fun v1 => if v1 = (-1 : Int32) then some ((-11 : Int32), σ) else (lpw (LX4_load_25 x1) ((0 : Int32), σ)).bind (fun b6 => some (b6.1, b6.2)))) = some res := hf
  refine m_start (by decide) rfl (Nat.le_of_ble_eq_true rfl) ?_
  intro p e s m args below meth c S hR hS ls hl
  obtain ⟨hx, hb, hml, hown, hts⟩ := S.1.1
  have hl : lv_has ls 3 [(0, .ref (mo G)), (1, .int x1)] := hl
  refine lv_iload_n hx hb dX4_load_0 rfl (lv_at hl 1 rfl) ?_
  refine s_call (As := [.int x1]) (rest := []) S.1.1 (met_X4_isSheet rfl) wi_X4_isSheet q2893 ⟨rfl, rfl⟩ ⟨Nat.le_of_ble_eq_true rfl, Nat.le_of_ble_eq_true rfl⟩ rfl hl.1 rfl (Nat.le_of_ble_eq_true rfl) dX4_load_1 ⟨Nat.zero_le _, Nat.zero_le _⟩ ?_
  refine lv_if_ne (tgt := 10) hx hb dX4_load_4 (by decide) (fun c_4 => ?_) (fun c_4 => ?_)
  · replace hf := o_f hf c_4
    refine lv_aload_n hx hb dX4_load_10 rfl (lv_at hl 0 rfl) ?_
    refine m_geta (k := 43) S hR (by decide) (by decide) q2569 dX4_load_11 ?_
    refine lv_iload_n hx hb dX4_load_14 rfl (lv_at hl 1 rfl) ?_
    refine k_bind hf (fun v1 hv1 hf => ?_)
    refine m_iald S hR hv1 dX4_load_15 ?_
    refine lv_iconst (v := -1) hx hb dX4_load_16 (by decide) ?_
    refine lv_icmp_ne (tgt := 23) hx hb dX4_load_17 (by decide) (fun c_17 => ?_) (fun c_17 => ?_)
    · replace hf := o_f hf c_17
      refine lv_iconst (v := 0) hx hb dX4_load_23 (by decide) ?_
      refine lv_istore_n (lv' := [(2, .int (0 : Int32)), (0, .ref (mo G)), (1, .int x1)]) hx hb dX4_load_24 rfl hl (by decide) rfl (fun ls hl => ?_)
      refine k_bind hf (fun b6 hb6 hf => ?_)
      refine wLX4_load_25 S hb6 ?_ _ _ _ hR hS (lv_sub (l' := [(0, .ref (mo G)), (1, .int x1), (2, .int (0 : Int32))]) hl [1, 2, 0] rfl)
      · intro b eb; subst eb; intro H locs ls hR hS hl
        refine lv_iload_n hx hb dX4_load_86 rfl (lv_at hl 1 rfl) ?_
        obtain rfl := Option.some.inj hf
        exact m_iret S hR hS rfl dX4_load_87
    · replace hf := o_t hf c_17
      refine lv_bipush (v := -11) hx hb dX4_load_20 (by decide) ?_
      obtain rfl := Option.some.inj hf
      exact m_iret S hR hS rfl dX4_load_22
  · replace hf := o_t hf c_4
    refine lv_bipush (v := -2) hx hb dX4_load_7 (by decide) ?_
    obtain rfl := Option.some.inj hf
    exact m_iret S hR hS rfl dX4_load_9

noncomputable def LX4_judge_75 (y1 : Int32) (y2 : Int32) (y3 : Int32) (y4 : Int32) (σ : mS) (q : Int32) : Option ((Int32) ⊕ ((Unit) ⊕ (Unit))) :=
  if y3 ≤ q then some (Sum.inr (Sum.inr ())) else (mald σ 4 y3).bind (fun v4 => if (fX4_has v4 q) = (0 : Int32) then some (Sum.inl (q + (1 : Int32))) else (mald σ 45 (((60 : Int32) * y1) + q)).bind (fun v5 => if (2 : Int32) ≤ (v5 + y4) then some (Sum.inl (q + (1 : Int32))) else some (Sum.inr (Sum.inl ()))))
noncomputable def LX4_judge_27 (y1 : Int32) (σ : mS) (q : Int32 × Int32) : Option ((Int32 × Int32) ⊕ ((Int32) ⊕ (Int32) ⊕ (Int32))) :=
  (mald σ 44 y1).bind (fun v2 => if v2 ≤ q.2 then some (Sum.inr (Sum.inr (Sum.inr q.1))) else (mald σ 45 (((60 : Int32) * y1) + q.2)).bind (fun v3 => if (fX4_isPoint q.2 σ) = (0 : Int32) then some (Sum.inr (Sum.inl q.2)) else if (fX4_in v3 (0 : Int32) (2 : Int32)) = (0 : Int32) then some (Sum.inr (Sum.inl q.2)) else (lpw (LX4_judge_75 y1 q.1 q.2 v3 σ) (0 : Int32)).bind ((fun e => Sum.elim (fun b7 => some (Sum.inr (Sum.inr (Sum.inl q.2)))) (fun b8 => (some (q.1 + v3)).bind (fun v9 => some (Sum.inl (v9, q.2 + (1 : Int32))))) e))))
noncomputable def fX4_judge (x1 : Int32) (σ : mS) : Option (Int32 × mS) :=
  if (fX4_isSheet x1) = (0 : Int32) then some ((-2 : Int32), σ) else (mald σ 43 x1).bind (fun v1 => if v1 = (-1 : Int32) then some ((-11 : Int32), σ) else (lpw (LX4_judge_27 x1 σ) ((0 : Int32), (0 : Int32))).bind ((fun e => Sum.elim (fun b11 => some (((1 : Int32) + b11), σ)) (fun e => Sum.elim (fun b12 => some (((1 : Int32) + b12), σ)) (fun b13 => (mald σ 44 x1).bind (fun v14 => if v14 = (σ.1 0) then (fX4_leastHalves (fX4_all σ) σ).bind (fun e15 => if b13 = e15.1 then some ((0 : Int32), e15.2) else some ((100 : Int32), e15.2)) else some ((100 : Int32), σ))) e) e)))
theorem wi_X4_judge : wInfV yX4_judge cX4_judge 6 (Option.some Jvm.ClassFile.FieldType.int) 1 := ⟨q3079, q3080, q116, q3081, (by decide +kernel), (by decide +kernel), (by decide +kernel)⟩
set_option maxHeartbeats 4000000 in
set_option maxRecDepth 100000 in
theorem wbLX4_judge_75 {l : Launch} {G : mG} {p : Program} {e : Env} {s : State} {m : MethodId} {args : Array Value} {below : List Frame} {meth : Method} {c : Code} {Q : State → Prop} {y1 : Int32} {y2 : Int32} {y3 : Int32} {y4 : Int32} {σ : mS} {q : Int32} {res : (Int32) ⊕ ((Unit) ⊕ (Unit))} (S : mSt G p m c cX4_judge 6 s args meth (Option.some Jvm.ClassFile.FieldType.int)) (hf : LX4_judge_75 y1 y2 y3 y4 σ q = some res) (hK : ∀ q, res = Sum.inl q → (∀ (H : Heap) (locs : List Loc) (ls : Array Slot), mR G σ H → va_S (mA G) s.heap H locs → lv_has ls 6 [(0, .ref (mo G)), (1, .int y1), (2, .int y2), (3, .int y3), (4, .int y4), (5, .int q)] → W p l e (mRm 19 435) s m args below meth c H locs 0 0 Q (F0 m 75 ls []))) (hE114 : ∀ b, res = Sum.inr (Sum.inl b) → (∀ (H : Heap) (locs : List Loc) (ls : Array Slot), mR G σ H → va_S (mA G) s.heap H locs → lv_has ls 6 [(0, .ref (mo G)), (3, .int y3)] → W p l e (mRm 19 435) s m args below meth c H locs 0 0 Q (F0 m 114 ls []))) (hE124 : ∀ b, res = Sum.inr (Sum.inr b) → (∀ (H : Heap) (locs : List Loc) (ls : Array Slot), mR G σ H → va_S (mA G) s.heap H locs → lv_has ls 6 [(0, .ref (mo G)), (1, .int y1), (2, .int y2), (3, .int y3), (4, .int y4)] → W p l e (mRm 19 435) s m args below meth c H locs 0 0 Q (F0 m 124 ls []))) : (∀ (H : Heap) (locs : List Loc) (ls : Array Slot), mR G σ H → va_S (mA G) s.heap H locs → lv_has ls 6 [(0, .ref (mo G)), (1, .int y1), (2, .int y2), (3, .int y3), (4, .int y4), (5, .int q)] → W p l e (mRm 19 435) s m args below meth c H locs 0 0 Q (F0 m 75 ls [])) := by
  replace hf : (if y3 ≤ q then some (Sum.inr (Sum.inr ())) else (mald σ 4 y3).bind (fun v4 => if (fX4_has v4 q) = (0 : Int32) then some (Sum.inl (q + (1 : Int32))) else (mald σ 45 (((60 : Int32) * y1) + q)).bind (fun v5 => if (2 : Int32) ≤ (v5 + y4) then some (Sum.inl (q + (1 : Int32))) else some (Sum.inr (Sum.inl ()))))) = some res := hf
  obtain ⟨hx, hb, hml, hown, hts⟩ := S.1.1
  intro H locs ls hR hS hl
  refine lv_iload hx hb dX4_judge_75 (lv_at hl 5 rfl) ?_
  refine lv_iload_n hx hb dX4_judge_77 rfl (lv_at hl 3 rfl) ?_
  refine lv_icmp_ge (tgt := 124) hx hb dX4_judge_78 (by decide) (fun c_78 => ?_) (fun c_78 => ?_)
  · replace hf := o_t hf c_78
    exact hE124 _ (Option.some.inj hf).symm _ _ _ hR hS (lv_sub (l' := [(0, .ref (mo G)), (1, .int y1), (2, .int y2), (3, .int y3), (4, .int y4)]) hl [0, 1, 2, 3, 4] rfl)
  · replace hf := o_f hf c_78
    refine lv_aload_n hx hb dX4_judge_81 rfl (lv_at hl 0 rfl) ?_
    refine m_geta (k := 4) S hR (by decide) (by decide) q2530 dX4_judge_82 ?_
    refine lv_iload_n hx hb dX4_judge_85 rfl (lv_at hl 3 rfl) ?_
    refine k_bind hf (fun v4 hv4 hf => ?_)
    refine m_iald S hR hv4 dX4_judge_86 ?_
    refine lv_iload hx hb dX4_judge_87 (lv_at hl 5 rfl) ?_
    refine s_call (As := [.int v4, .int q]) (rest := []) S.1.1 (met_X4_has rfl) wi_X4_has q2750 ⟨rfl, rfl⟩ ⟨Nat.le_of_ble_eq_true rfl, Nat.le_of_ble_eq_true rfl⟩ rfl hl.1 rfl (Nat.le_of_ble_eq_true rfl) dX4_judge_89 ⟨Nat.zero_le _, Nat.zero_le _⟩ ?_
    refine lv_if_eq (tgt := 118) hx hb dX4_judge_92 (by decide) (fun c_92 => ?_) (fun c_92 => ?_)
    · replace hf := o_t hf c_92
      refine lv_iinc (lv' := [(5, .int (q + (1 : Int32))), (0, .ref (mo G)), (1, .int y1), (2, .int y2), (3, .int y3), (4, .int y4)]) hx hb dX4_judge_118 hl (k := 5) rfl (m_inc (by decide)) (by decide) rfl (fun ls hl => ?_)
      refine lv_goto (tgt := 75) hx hb dX4_judge_121 (by decide) ?_
      exact hK _ (Option.some.inj hf).symm _ _ _ hR hS (lv_sub (l' := [(0, .ref (mo G)), (1, .int y1), (2, .int y2), (3, .int y3), (4, .int y4), (5, .int (q + (1 : Int32)))]) hl [1, 2, 3, 4, 5, 0] rfl)
    · replace hf := o_f hf c_92
      refine lv_aload_n hx hb dX4_judge_95 rfl (lv_at hl 0 rfl) ?_
      refine m_geta (k := 45) S hR (by decide) (by decide) q2571 dX4_judge_96 ?_
      refine lv_bipush (v := 60) hx hb dX4_judge_99 (by decide) ?_
      refine lv_iload_n hx hb dX4_judge_101 rfl (lv_at hl 1 rfl) ?_
      refine lv_imul hx hb dX4_judge_102 ?_
      refine lv_iload hx hb dX4_judge_103 (lv_at hl 5 rfl) ?_
      refine lv_iadd hx hb dX4_judge_105 ?_
      refine k_bind hf (fun v5 hv5 hf => ?_)
      refine m_iald S hR hv5 dX4_judge_106 ?_
      refine lv_iload hx hb dX4_judge_107 (lv_at hl 4 rfl) ?_
      refine lv_iadd hx hb dX4_judge_109 ?_
      refine lv_iconst (v := 2) hx hb dX4_judge_110 (by decide) ?_
      refine lv_icmp_ge (tgt := 118) hx hb dX4_judge_111 (by decide) (fun c_111 => ?_) (fun c_111 => ?_)
      · replace hf := o_t hf c_111
        refine lv_iinc (lv' := [(5, .int (q + (1 : Int32))), (0, .ref (mo G)), (1, .int y1), (2, .int y2), (3, .int y3), (4, .int y4)]) hx hb dX4_judge_118 hl (k := 5) rfl (m_inc (by decide)) (by decide) rfl (fun ls hl => ?_)
        refine lv_goto (tgt := 75) hx hb dX4_judge_121 (by decide) ?_
        exact hK _ (Option.some.inj hf).symm _ _ _ hR hS (lv_sub (l' := [(0, .ref (mo G)), (1, .int y1), (2, .int y2), (3, .int y3), (4, .int y4), (5, .int (q + (1 : Int32)))]) hl [1, 2, 3, 4, 5, 0] rfl)
      · replace hf := o_f hf c_111
        exact hE114 _ (Option.some.inj hf).symm _ _ _ hR hS (lv_sub (l' := [(0, .ref (mo G)), (3, .int y3)]) hl [0, 3] rfl)
set_option maxHeartbeats 4000000 in
set_option maxRecDepth 100000 in
theorem wLX4_judge_75 {l : Launch} {G : mG} {p : Program} {e : Env} {s : State} {m : MethodId} {args : Array Value} {below : List Frame} {meth : Method} {c : Code} {Q : State → Prop} {y1 : Int32} {y2 : Int32} {y3 : Int32} {y4 : Int32} {σ : mS} {q : Int32} {res : (Unit) ⊕ (Unit)} (S : mSt G p m c cX4_judge 6 s args meth (Option.some Jvm.ClassFile.FieldType.int)) (h : lpw (LX4_judge_75 y1 y2 y3 y4 σ) q = some res) (hE114 : ∀ b, res = (Sum.inl b) → (∀ (H : Heap) (locs : List Loc) (ls : Array Slot), mR G σ H → va_S (mA G) s.heap H locs → lv_has ls 6 [(0, .ref (mo G)), (3, .int y3)] → W p l e (mRm 19 435) s m args below meth c H locs 0 0 Q (F0 m 114 ls []))) (hE124 : ∀ b, res = (Sum.inr b) → (∀ (H : Heap) (locs : List Loc) (ls : Array Slot), mR G σ H → va_S (mA G) s.heap H locs → lv_has ls 6 [(0, .ref (mo G)), (1, .int y1), (2, .int y2), (3, .int y3), (4, .int y4)] → W p l e (mRm 19 435) s m args below meth c H locs 0 0 Q (F0 m 124 ls []))) : (∀ (H : Heap) (locs : List Loc) (ls : Array Slot), mR G σ H → va_S (mA G) s.heap H locs → lv_has ls 6 [(0, .ref (mo G)), (1, .int y1), (2, .int y2), (3, .int y3), (4, .int y4), (5, .int q)] → W p l e (mRm 19 435) s m args below meth c H locs 0 0 Q (F0 m 75 ls [])) :=
  lpw_go _ (fun q => (∀ (H : Heap) (locs : List Loc) (ls : Array Slot), mR G σ H → va_S (mA G) s.heap H locs → lv_has ls 6 [(0, .ref (mo G)), (1, .int y1), (2, .int y2), (3, .int y3), (4, .int y4), (5, .int q)] → W p l e (mRm 19 435) s m args below meth c H locs 0 0 Q (F0 m 75 ls []))) (fun b0 => (∀ b, b0 = (Sum.inl b) → (∀ (H : Heap) (locs : List Loc) (ls : Array Slot), mR G σ H → va_S (mA G) s.heap H locs → lv_has ls 6 [(0, .ref (mo G)), (3, .int y3)] → W p l e (mRm 19 435) s m args below meth c H locs 0 0 Q (F0 m 114 ls []))) ∧ (∀ b, b0 = (Sum.inr b) → (∀ (H : Heap) (locs : List Loc) (ls : Array Slot), mR G σ H → va_S (mA G) s.heap H locs → lv_has ls 6 [(0, .ref (mo G)), (1, .int y1), (2, .int y2), (3, .int y3), (4, .int y4)] → W p l e (mRm 19 435) s m args below meth c H locs 0 0 Q (F0 m 124 ls [])))) (fun q x hf hK hX => wbLX4_judge_75 S hf hK (fun b eb => (hX _ eb).1 b rfl) (fun b eb => (hX _ eb).2 b rfl)) q res h ⟨hE114, hE124⟩
set_option maxHeartbeats 4000000 in
set_option maxRecDepth 100000 in
theorem wbLX4_judge_27 {l : Launch} {G : mG} {p : Program} {e : Env} {s : State} {m : MethodId} {args : Array Value} {below : List Frame} {meth : Method} {c : Code} {Q : State → Prop} {y1 : Int32} {σ : mS} {q : Int32 × Int32} {res : (Int32 × Int32) ⊕ ((Int32) ⊕ (Int32) ⊕ (Int32))} (S : mSt G p m c cX4_judge 6 s args meth (Option.some Jvm.ClassFile.FieldType.int)) (hf : LX4_judge_27 y1 σ q = some res) (hK : ∀ q, res = Sum.inl q → (∀ (H : Heap) (locs : List Loc) (ls : Array Slot), mR G σ H → va_S (mA G) s.heap H locs → lv_has ls 6 [(0, .ref (mo G)), (1, .int y1), (2, .int q.1), (3, .int q.2)] → W p l e (mRm 19 435) s m args below meth c H locs 0 0 Q (F0 m 27 ls []))) (hE68 : ∀ b, res = Sum.inr (Sum.inl b) → (∀ (H : Heap) (locs : List Loc) (ls : Array Slot), mR G σ H → va_S (mA G) s.heap H locs → lv_has ls 6 [(0, .ref (mo G)), (3, .int b)] → W p l e (mRm 19 435) s m args below meth c H locs 0 0 Q (F0 m 68 ls []))) (hE114 : ∀ b, res = Sum.inr (Sum.inr (Sum.inl b)) → (∀ (H : Heap) (locs : List Loc) (ls : Array Slot), mR G σ H → va_S (mA G) s.heap H locs → lv_has ls 6 [(0, .ref (mo G)), (3, .int b)] → W p l e (mRm 19 435) s m args below meth c H locs 0 0 Q (F0 m 114 ls []))) (hE135 : ∀ b, res = Sum.inr (Sum.inr (Sum.inr b)) → (∀ (H : Heap) (locs : List Loc) (ls : Array Slot), mR G σ H → va_S (mA G) s.heap H locs → lv_has ls 6 [(0, .ref (mo G)), (1, .int y1), (2, .int b)] → W p l e (mRm 19 435) s m args below meth c H locs 0 0 Q (F0 m 135 ls []))) : (∀ (H : Heap) (locs : List Loc) (ls : Array Slot), mR G σ H → va_S (mA G) s.heap H locs → lv_has ls 6 [(0, .ref (mo G)), (1, .int y1), (2, .int q.1), (3, .int q.2)] → W p l e (mRm 19 435) s m args below meth c H locs 0 0 Q (F0 m 27 ls [])) := by
  replace hf : ((mald σ 44 y1).bind (fun v2 => if v2 ≤ q.2 then some (Sum.inr (Sum.inr (Sum.inr q.1))) else (mald σ 45 (((60 : Int32) * y1) + q.2)).bind (fun v3 => if (fX4_isPoint q.2 σ) = (0 : Int32) then some (Sum.inr (Sum.inl q.2)) else if (fX4_in v3 (0 : Int32) (2 : Int32)) = (0 : Int32) then some (Sum.inr (Sum.inl q.2)) else (lpw (LX4_judge_75 y1 q.1 q.2 v3 σ) (0 : Int32)).bind ((fun e => Sum.elim (fun b7 => some (Sum.inr (Sum.inr (Sum.inl q.2)))) (fun b8 => (some (q.1 + v3)).bind (fun v9 => some (Sum.inl (v9, q.2 + (1 : Int32))))) e))))) = some res := hf
  obtain ⟨hx, hb, hml, hown, hts⟩ := S.1.1
  intro H locs ls hR hS hl
  refine lv_iload_n hx hb dX4_judge_27 rfl (lv_at hl 3 rfl) ?_
  refine lv_aload_n hx hb dX4_judge_28 rfl (lv_at hl 0 rfl) ?_
  refine m_geta (k := 44) S hR (by decide) (by decide) q2570 dX4_judge_29 ?_
  refine lv_iload_n hx hb dX4_judge_32 rfl (lv_at hl 1 rfl) ?_
  refine k_bind hf (fun v2 hv2 hf => ?_)
  refine m_iald S hR hv2 dX4_judge_33 ?_
  refine lv_icmp_ge (tgt := 135) hx hb dX4_judge_34 (by decide) (fun c_34 => ?_) (fun c_34 => ?_)
  · replace hf := o_t hf c_34
    exact hE135 _ (Option.some.inj hf).symm _ _ _ hR hS (lv_sub (l' := [(0, .ref (mo G)), (1, .int y1), (2, .int q.1)]) hl [0, 1, 2] rfl)
  · replace hf := o_f hf c_34
    refine lv_aload_n hx hb dX4_judge_37 rfl (lv_at hl 0 rfl) ?_
    refine m_geta (k := 45) S hR (by decide) (by decide) q2571 dX4_judge_38 ?_
    refine lv_bipush (v := 60) hx hb dX4_judge_41 (by decide) ?_
    refine lv_iload_n hx hb dX4_judge_43 rfl (lv_at hl 1 rfl) ?_
    refine lv_imul hx hb dX4_judge_44 ?_
    refine lv_iload_n hx hb dX4_judge_45 rfl (lv_at hl 3 rfl) ?_
    refine lv_iadd hx hb dX4_judge_46 ?_
    refine k_bind hf (fun v3 hv3 hf => ?_)
    refine m_iald S hR hv3 dX4_judge_47 ?_
    refine lv_istore (lv' := [(4, .int v3), (0, .ref (mo G)), (1, .int y1), (2, .int q.1), (3, .int q.2)]) hx hb dX4_judge_48 hl (by decide) rfl (fun ls hl => ?_)
    refine lv_aload_n hx hb dX4_judge_50 rfl (lv_at hl 1 rfl) ?_
    refine lv_iload_n hx hb dX4_judge_51 rfl (lv_at hl 4 rfl) ?_
    refine m_call (As := [.int q.2]) (rest := []) S hR hS (met_X4_isPoint rfl) wi_X4_isPoint rfl q2696 ⟨rfl, rfl⟩ ⟨Nat.le_of_ble_eq_true rfl, Nat.le_of_ble_eq_true rfl⟩ rfl hl.1 rfl (Nat.le_of_ble_eq_true rfl) dX4_judge_52 (fun H locs hR hS => ?_)
    refine lv_if_eq (tgt := 68) hx hb dX4_judge_55 (by decide) (fun c_55 => ?_) (fun c_55 => ?_)
    · replace hf := o_t hf c_55
      exact hE68 _ (Option.some.inj hf).symm _ _ _ hR hS (lv_sub (l' := [(0, .ref (mo G)), (3, .int q.2)]) hl [1, 4] rfl)
    · replace hf := o_f hf c_55
      refine lv_iload hx hb dX4_judge_58 (lv_at hl 0 rfl) ?_
      refine lv_iconst (v := 0) hx hb dX4_judge_60 (by decide) ?_
      refine lv_iconst (v := 2) hx hb dX4_judge_61 (by decide) ?_
      refine s_call (As := [.int v3, .int (0 : Int32), .int (2 : Int32)]) (rest := []) S.1.1 (met_X4_in rfl) wi_X4_in q2681 ⟨rfl, rfl⟩ ⟨Nat.le_of_ble_eq_true rfl, Nat.le_of_ble_eq_true rfl⟩ rfl hl.1 rfl (Nat.le_of_ble_eq_true rfl) dX4_judge_62 ⟨Nat.zero_le _, Nat.zero_le _⟩ ?_
      refine lv_if_ne (tgt := 72) hx hb dX4_judge_65 (by decide) (fun c_65 => ?_) (fun c_65 => ?_)
      · replace hf := o_f hf c_65
        refine lv_iconst (v := 0) hx hb dX4_judge_72 (by decide) ?_
        refine lv_istore (lv' := [(5, .int (0 : Int32)), (4, .int v3), (0, .ref (mo G)), (1, .int y1), (2, .int q.1), (3, .int q.2)]) hx hb dX4_judge_73 hl (by decide) rfl (fun ls hl => ?_)
        refine k_bind hf (fun b6 hb6 hf => ?_)
        refine wLX4_judge_75 S hb6 ?_ ?_ _ _ _ hR hS (lv_sub (l' := [(0, .ref (mo G)), (1, .int y1), (2, .int q.1), (3, .int q.2), (4, .int v3), (5, .int (0 : Int32))]) hl [2, 3, 4, 5, 1, 0] rfl)
        · intro b7 eb; subst eb; intro H locs ls hR hS hl
          replace hf := o_l hf
          exact hE114 _ (Option.some.inj hf).symm _ _ _ hR hS hl
        · intro b8 eb; subst eb; intro H locs ls hR hS hl
          replace hf := o_r hf
          refine lv_iload_n hx hb dX4_judge_124 rfl (lv_at hl 2 rfl) ?_
          refine lv_iload hx hb dX4_judge_125 (lv_at hl 4 rfl) ?_
          refine lv_iadd hx hb dX4_judge_127 ?_
          refine k_bind hf (fun v9 hv9 hf => ?_)
          refine m_nmi hv9 ?_
          refine lv_istore_n (lv' := [(2, .int v9), (0, .ref (mo G)), (1, .int y1), (3, .int q.2), (4, .int v3)]) hx hb dX4_judge_128 rfl hl (by decide) rfl (fun ls hl => ?_)
          refine lv_iinc (lv' := [(3, .int (q.2 + (1 : Int32))), (2, .int v9), (0, .ref (mo G)), (1, .int y1), (4, .int v3)]) hx hb dX4_judge_129 hl (k := 3) rfl (m_inc (by decide)) (by decide) rfl (fun ls hl => ?_)
          refine lv_goto (tgt := 27) hx hb dX4_judge_132 (by decide) ?_
          exact hK _ (Option.some.inj hf).symm _ _ _ hR hS (lv_sub (l' := [(0, .ref (mo G)), (1, .int y1), (2, .int v9), (3, .int (q.2 + (1 : Int32)))]) hl [2, 3, 1, 0] rfl)
      · replace hf := o_t hf c_65
        exact hE68 _ (Option.some.inj hf).symm _ _ _ hR hS (lv_sub (l' := [(0, .ref (mo G)), (3, .int q.2)]) hl [1, 4] rfl)
set_option maxHeartbeats 4000000 in
set_option maxRecDepth 100000 in
theorem wLX4_judge_27 {l : Launch} {G : mG} {p : Program} {e : Env} {s : State} {m : MethodId} {args : Array Value} {below : List Frame} {meth : Method} {c : Code} {Q : State → Prop} {y1 : Int32} {σ : mS} {q : Int32 × Int32} {res : (Int32) ⊕ (Int32) ⊕ (Int32)} (S : mSt G p m c cX4_judge 6 s args meth (Option.some Jvm.ClassFile.FieldType.int)) (h : lpw (LX4_judge_27 y1 σ) q = some res) (hE68 : ∀ b, res = (Sum.inl b) → (∀ (H : Heap) (locs : List Loc) (ls : Array Slot), mR G σ H → va_S (mA G) s.heap H locs → lv_has ls 6 [(0, .ref (mo G)), (3, .int b)] → W p l e (mRm 19 435) s m args below meth c H locs 0 0 Q (F0 m 68 ls []))) (hE114 : ∀ b, res = (Sum.inr (Sum.inl b)) → (∀ (H : Heap) (locs : List Loc) (ls : Array Slot), mR G σ H → va_S (mA G) s.heap H locs → lv_has ls 6 [(0, .ref (mo G)), (3, .int b)] → W p l e (mRm 19 435) s m args below meth c H locs 0 0 Q (F0 m 114 ls []))) (hE135 : ∀ b, res = (Sum.inr (Sum.inr b)) → (∀ (H : Heap) (locs : List Loc) (ls : Array Slot), mR G σ H → va_S (mA G) s.heap H locs → lv_has ls 6 [(0, .ref (mo G)), (1, .int y1), (2, .int b)] → W p l e (mRm 19 435) s m args below meth c H locs 0 0 Q (F0 m 135 ls []))) : (∀ (H : Heap) (locs : List Loc) (ls : Array Slot), mR G σ H → va_S (mA G) s.heap H locs → lv_has ls 6 [(0, .ref (mo G)), (1, .int y1), (2, .int q.1), (3, .int q.2)] → W p l e (mRm 19 435) s m args below meth c H locs 0 0 Q (F0 m 27 ls [])) :=
  lpw_go _ (fun q => (∀ (H : Heap) (locs : List Loc) (ls : Array Slot), mR G σ H → va_S (mA G) s.heap H locs → lv_has ls 6 [(0, .ref (mo G)), (1, .int y1), (2, .int q.1), (3, .int q.2)] → W p l e (mRm 19 435) s m args below meth c H locs 0 0 Q (F0 m 27 ls []))) (fun b0 => (∀ b, b0 = (Sum.inl b) → (∀ (H : Heap) (locs : List Loc) (ls : Array Slot), mR G σ H → va_S (mA G) s.heap H locs → lv_has ls 6 [(0, .ref (mo G)), (3, .int b)] → W p l e (mRm 19 435) s m args below meth c H locs 0 0 Q (F0 m 68 ls []))) ∧ (∀ b, b0 = (Sum.inr (Sum.inl b)) → (∀ (H : Heap) (locs : List Loc) (ls : Array Slot), mR G σ H → va_S (mA G) s.heap H locs → lv_has ls 6 [(0, .ref (mo G)), (3, .int b)] → W p l e (mRm 19 435) s m args below meth c H locs 0 0 Q (F0 m 114 ls []))) ∧ (∀ b, b0 = (Sum.inr (Sum.inr b)) → (∀ (H : Heap) (locs : List Loc) (ls : Array Slot), mR G σ H → va_S (mA G) s.heap H locs → lv_has ls 6 [(0, .ref (mo G)), (1, .int y1), (2, .int b)] → W p l e (mRm 19 435) s m args below meth c H locs 0 0 Q (F0 m 135 ls [])))) (fun q x hf hK hX => wbLX4_judge_27 S hf hK (fun b eb => (hX _ eb).1 b rfl) (fun b eb => (hX _ eb).2.1 b rfl) (fun b eb => (hX _ eb).2.2 b rfl)) q res h ⟨hE68, hE114, hE135⟩
set_option maxHeartbeats 4000000 in
set_option maxRecDepth 100000 in
theorem met_X4_judge {l : Launch} {G : mG} {x1 : Int32} {σ : mS} {res : Int32 × mS} (hf : fX4_judge x1 σ = some res) : mMet l yX4_judge cX4_judge 6 (Option.some Jvm.ClassFile.FieldType.int) (mRm 19 435) G [.ref (mo G), .int x1] σ (some (.int res.1)) res.2 := by
  replace hf : (if (fX4_isSheet x1) = (0 : Int32) then some ((-2 : Int32), σ) else (mald σ 43 x1).bind (fun v1 => if v1 = (-1 : Int32) then some ((-11 : Int32), σ) else (lpw (LX4_judge_27 x1 σ) ((0 : Int32), (0 : Int32))).bind ((fun e => Sum.elim (fun b11 => some (((1 : Int32) + b11), σ)) (fun e => Sum.elim (fun b12 => some (((1 : Int32) + b12), σ)) (fun b13 => (mald σ 44 x1).bind (fun v14 => if v14 = (σ.1 0) then (fX4_leastHalves (fX4_all σ) σ).bind (fun e15 => if b13 = e15.1 then some ((0 : Int32), e15.2) else some ((100 : Int32), e15.2)) else some ((100 : Int32), σ))) e) e)))) = some res := hf
  refine m_start (by decide) rfl (Nat.le_of_ble_eq_true rfl) ?_
  intro p e s m args below meth c S hR hS ls hl
  obtain ⟨hx, hb, hml, hown, hts⟩ := S.1.1
  have hl : lv_has ls 6 [(0, .ref (mo G)), (1, .int x1)] := hl
  refine lv_iload_n hx hb dX4_judge_0 rfl (lv_at hl 1 rfl) ?_
  refine s_call (As := [.int x1]) (rest := []) S.1.1 (met_X4_isSheet rfl) wi_X4_isSheet q2893 ⟨rfl, rfl⟩ ⟨Nat.le_of_ble_eq_true rfl, Nat.le_of_ble_eq_true rfl⟩ rfl hl.1 rfl (Nat.le_of_ble_eq_true rfl) dX4_judge_1 ⟨Nat.zero_le _, Nat.zero_le _⟩ ?_
  refine lv_if_ne (tgt := 10) hx hb dX4_judge_4 (by decide) (fun c_4 => ?_) (fun c_4 => ?_)
  · replace hf := o_f hf c_4
    refine lv_aload_n hx hb dX4_judge_10 rfl (lv_at hl 0 rfl) ?_
    refine m_geta (k := 43) S hR (by decide) (by decide) q2569 dX4_judge_11 ?_
    refine lv_iload_n hx hb dX4_judge_14 rfl (lv_at hl 1 rfl) ?_
    refine k_bind hf (fun v1 hv1 hf => ?_)
    refine m_iald S hR hv1 dX4_judge_15 ?_
    refine lv_iconst (v := -1) hx hb dX4_judge_16 (by decide) ?_
    refine lv_icmp_ne (tgt := 23) hx hb dX4_judge_17 (by decide) (fun c_17 => ?_) (fun c_17 => ?_)
    · replace hf := o_f hf c_17
      refine lv_iconst (v := 0) hx hb dX4_judge_23 (by decide) ?_
      refine lv_istore_n (lv' := [(2, .int (0 : Int32)), (0, .ref (mo G)), (1, .int x1)]) hx hb dX4_judge_24 rfl hl (by decide) rfl (fun ls hl => ?_)
      refine lv_iconst (v := 0) hx hb dX4_judge_25 (by decide) ?_
      refine lv_istore_n (lv' := [(3, .int (0 : Int32)), (2, .int (0 : Int32)), (0, .ref (mo G)), (1, .int x1)]) hx hb dX4_judge_26 rfl hl (by decide) rfl (fun ls hl => ?_)
      refine k_bind hf (fun b10 hb10 hf => ?_)
      refine wLX4_judge_27 S hb10 ?_ ?_ ?_ _ _ _ hR hS (lv_sub (l' := [(0, .ref (mo G)), (1, .int x1), (2, .int (0 : Int32)), (3, .int (0 : Int32))]) hl [2, 3, 1, 0] rfl)
      · intro b11 eb; subst eb; intro H locs ls hR hS hl
        replace hf := o_l hf
        refine lv_iconst (v := 1) hx hb dX4_judge_68 (by decide) ?_
        refine lv_iload_n hx hb dX4_judge_69 rfl (lv_at hl 1 rfl) ?_
        refine lv_iadd hx hb dX4_judge_70 ?_
        obtain rfl := Option.some.inj hf
        exact m_iret S hR hS rfl dX4_judge_71
      · intro b12 eb; subst eb; intro H locs ls hR hS hl
        replace hf := o_r hf
        replace hf := o_l hf
        refine lv_iconst (v := 1) hx hb dX4_judge_114 (by decide) ?_
        refine lv_iload_n hx hb dX4_judge_115 rfl (lv_at hl 1 rfl) ?_
        refine lv_iadd hx hb dX4_judge_116 ?_
        obtain rfl := Option.some.inj hf
        exact m_iret S hR hS rfl dX4_judge_117
      · intro b13 eb; subst eb; intro H locs ls hR hS hl
        replace hf := o_r hf
        replace hf := o_r hf
        refine lv_aload_n hx hb dX4_judge_135 rfl (lv_at hl 0 rfl) ?_
        refine m_geta (k := 44) S hR (by decide) (by decide) q2570 dX4_judge_136 ?_
        refine lv_iload_n hx hb dX4_judge_139 rfl (lv_at hl 1 rfl) ?_
        refine k_bind hf (fun v14 hv14 hf => ?_)
        refine m_iald S hR hv14 dX4_judge_140 ?_
        refine lv_aload_n hx hb dX4_judge_141 rfl (lv_at hl 0 rfl) ?_
        refine m_geti (k := 0) S hR (by decide) (by decide) q2526 dX4_judge_142 ?_
        refine lv_icmp_ne (tgt := 164) hx hb dX4_judge_145 (by decide) (fun c_145 => ?_) (fun c_145 => ?_)
        · replace hf := o_f hf c_145
          refine lv_bipush (v := 100) hx hb dX4_judge_164 (by decide) ?_
          obtain rfl := Option.some.inj hf
          exact m_iret S hR hS rfl dX4_judge_166
        · replace hf := o_t hf c_145
          refine lv_iload_n hx hb dX4_judge_148 rfl (lv_at hl 2 rfl) ?_
          refine lv_aload_n hx hb dX4_judge_149 rfl (lv_at hl 0 rfl) ?_
          refine lv_aload_n hx hb dX4_judge_150 rfl (lv_at hl 0 rfl) ?_
          refine m_call (As := []) (rest := [.ref (mo G), .int b13]) S hR hS (met_X4_all rfl) wi_X4_all rfl q2738 ⟨rfl, rfl⟩ ⟨Nat.le_of_ble_eq_true rfl, Nat.le_of_ble_eq_true rfl⟩ rfl hl.1 rfl (Nat.le_of_ble_eq_true rfl) dX4_judge_151 (fun H locs hR hS => ?_)
          refine k_bind hf (fun e15 he15 hf => ?_)
          refine m_call (As := [.int (fX4_all σ)]) (rest := [.int b13]) S hR hS (met_X4_leastHalves he15) wi_X4_leastHalves rfl q2798 ⟨rfl, rfl⟩ ⟨Nat.le_of_ble_eq_true rfl, Nat.le_of_ble_eq_true rfl⟩ rfl hl.1 rfl (Nat.le_of_ble_eq_true rfl) dX4_judge_154 (fun H locs hR hS => ?_)
          refine lv_icmp_ne (tgt := 164) hx hb dX4_judge_157 (by decide) (fun c_157 => ?_) (fun c_157 => ?_)
          · replace hf := o_f hf c_157
            refine lv_bipush (v := 100) hx hb dX4_judge_164 (by decide) ?_
            obtain rfl := Option.some.inj hf
            exact m_iret S hR hS rfl dX4_judge_166
          · replace hf := o_t hf c_157
            refine lv_iconst (v := 0) hx hb dX4_judge_160 (by decide) ?_
            refine lv_goto (tgt := 166) hx hb dX4_judge_161 (by decide) ?_
            obtain rfl := Option.some.inj hf
            exact m_iret S hR hS rfl dX4_judge_166
    · replace hf := o_t hf c_17
      refine lv_bipush (v := -11) hx hb dX4_judge_20 (by decide) ?_
      obtain rfl := Option.some.inj hf
      exact m_iret S hR hS rfl dX4_judge_22
  · replace hf := o_t hf c_4
    refine lv_bipush (v := -2) hx hb dX4_judge_7 (by decide) ?_
    obtain rfl := Option.some.inj hf
    exact m_iret S hR hS rfl dX4_judge_9
