/-! the reference, walked: seed draw deals deal keeps putsBack times -/
noncomputable def fX4_seed (x1 : Int32) (σ : mS) : Option (Int32 × mS) :=
  (some (σ.1 1)).bind (fun v1 => (mput σ 1 x1).bind (fun σ2 => some (v1, σ2)))
theorem wi_X4_seed : wInfV yX4_seed cX4_seed 3 (Option.some Jvm.ClassFile.FieldType.int) 1 := ⟨q3026, q3027, q116, q3028, (by decide +kernel), (by decide +kernel), (by decide +kernel)⟩
set_option maxHeartbeats 4000000 in
set_option maxRecDepth 100000 in
theorem met_X4_seed {l : Launch} {G : mG} {x1 : Int32} {σ : mS} {res : Int32 × mS} (hf : fX4_seed x1 σ = some res) : mMet l yX4_seed cX4_seed 3 (Option.some Jvm.ClassFile.FieldType.int) (mRm 0 0) G [.ref (mo G), .int x1] σ (some (.int res.1)) res.2 := by
  replace hf : ((some (σ.1 1)).bind (fun v1 => (mput σ 1 x1).bind (fun σ2 => some (v1, σ2)))) = some res := hf
  refine m_start (by decide) rfl (Nat.le_of_ble_eq_true rfl) ?_
  intro p e s m args below meth c S hR hS ls hl
  obtain ⟨hx, hb, hml, hown, hts⟩ := S.1.1
  have hl : lv_has ls 3 [(0, .ref (mo G)), (1, .int x1)] := hl
  refine lv_aload_n hx hb dX4_seed_0 rfl (lv_at hl 0 rfl) ?_
  refine m_geti (k := 1) S hR (by decide) (by decide) q2527 dX4_seed_1 ?_
  refine k_bind hf (fun v1 hv1 hf => ?_)
  refine m_nmi hv1 ?_
  refine lv_istore_n (lv' := [(2, .int v1), (0, .ref (mo G)), (1, .int x1)]) hx hb dX4_seed_4 rfl hl (by decide) rfl (fun ls hl => ?_)
  refine lv_aload_n hx hb dX4_seed_5 rfl (lv_at hl 1 rfl) ?_
  refine lv_iload_n hx hb dX4_seed_6 rfl (lv_at hl 2 rfl) ?_
  refine k_bind hf (fun σ2 hσ2 hf => ?_)
  refine m_puti (k := 1) S hR hS hσ2 (by decide) (by decide) rfl rfl rfl rfl q2527 dX4_seed_7 (fun H locs hR hS => ?_)
  refine lv_iload_n hx hb dX4_seed_10 rfl (lv_at hl 0 rfl) ?_
  obtain rfl := Option.some.inj hf
  exact m_iret S hR hS rfl dX4_seed_11

noncomputable def fX4_draw (σ : mS) : Option (Int32 × mS) :=
  (mput σ 1 (((σ.1 1) * (1103515245 : Int32)) + (12345 : Int32))).bind (fun σ1 => some ((iur (σ1.1 1) (16 : Int32)), σ1))
theorem wi_X4_draw : wInfV yX4_draw cX4_draw 1 (Option.some Jvm.ClassFile.FieldType.int) 0 := ⟨q3039, qs101, q116, q3040, (by decide +kernel), (by decide +kernel), (by decide +kernel)⟩
set_option maxHeartbeats 4000000 in
set_option maxRecDepth 100000 in
theorem met_X4_draw {l : Launch} {G : mG} {σ : mS} {res : Int32 × mS} (hf : fX4_draw σ = some res) : mMet l yX4_draw cX4_draw 1 (Option.some Jvm.ClassFile.FieldType.int) (mRm 0 0) G [.ref (mo G)] σ (some (.int res.1)) res.2 := by
  replace hf : ((mput σ 1 (((σ.1 1) * (1103515245 : Int32)) + (12345 : Int32))).bind (fun σ1 => some ((iur (σ1.1 1) (16 : Int32)), σ1))) = some res := hf
  refine m_start (by decide) rfl (Nat.le_of_ble_eq_true rfl) ?_
  intro p e s m args below meth c S hR hS ls hl
  obtain ⟨hx, hb, hml, hown, hts⟩ := S.1.1
  have hl : lv_has ls 1 [(0, .ref (mo G))] := hl
  refine lv_aload_n hx hb dX4_draw_0 rfl (lv_at hl 0 rfl) ?_
  refine lv_aload_n hx hb dX4_draw_1 rfl (lv_at hl 0 rfl) ?_
  refine m_geti (k := 1) S hR (by decide) (by decide) q2527 dX4_draw_2 ?_
  refine lv_ldcw hx hb hown (hts _ q3041) dX4_draw_5 ?_
  refine lv_imul hx hb dX4_draw_8 ?_
  refine lv_sipush (v := 12345) hx hb dX4_draw_9 (by decide) ?_
  refine lv_iadd hx hb dX4_draw_12 ?_
  refine k_bind hf (fun σ1 hσ1 hf => ?_)
  refine m_puti (k := 1) S hR hS hσ1 (by decide) (by decide) rfl rfl rfl rfl q2527 dX4_draw_13 (fun H locs hR hS => ?_)
  refine lv_aload_n hx hb dX4_draw_16 rfl (lv_at hl 0 rfl) ?_
  refine m_geti (k := 1) S hR (by decide) (by decide) q2527 dX4_draw_17 ?_
  refine lv_bipush (v := 16) hx hb dX4_draw_20 (by decide) ?_
  refine lv_iushr (v := iur (σ1.1 1) (16 : Int32)) hx hb dX4_draw_22 rfl ?_
  obtain rfl := Option.some.inj hf
  exact m_iret S hR hS rfl dX4_draw_23

noncomputable def LX4_deals_7 (y1 : Int32) (y2 : Int32) (q : Int32 × mS) : Option ((Int32 × mS) ⊕ (mS)) :=
  if y1 ≤ q.1 then some (Sum.inr q.2) else (fX4_draw q.2).bind (fun e2 => (some (irm e2.1 (6 : Int32))).bind (fun v3 => (fX4_draw e2.2).bind (fun e4 => (fX4_comes v3 ((1 : Int32) + (irm e4.1 (9 : Int32))) e4.2).bind (fun e5 => some (Sum.inl (q.1 + (1 : Int32), e5))))))
noncomputable def LX4_deals_54 (y1 : Int32) (y2 : Int32) (y3 : Int32) (q : Int32 × mS) : Option ((Int32 × mS) ⊕ (mS)) :=
  if y1 ≤ q.1 then some (Sum.inr q.2) else (fX4_draw q.2).bind (fun e8 => if y2 ≤ (irm e8.1 (10 : Int32)) then some (Sum.inl (q.1 + (1 : Int32), e8.2)) else (fX4_lays y3 q.1 (1 : Int32) e8.2).bind (fun e9 => some (Sum.inl (q.1 + (1 : Int32), e9))))
noncomputable def LX4_deals_44 (y1 : Int32) (y2 : Int32) (q : Int32 × mS) : Option ((Int32 × mS) ⊕ (mS)) :=
  if y1 ≤ q.1 then some (Sum.inr q.2) else (some (q.1 + (1 : Int32))).bind (fun v7 => (lpw (LX4_deals_54 y1 y2 q.1) (v7, q.2)).bind (fun b10 => some (Sum.inl (q.1 + (1 : Int32), b10))))
noncomputable def fX4_deals (x1 : Int32) (x2 : Int32) (σ : mS) : Option mS :=
  (mput σ 0 (0 : Int32)).bind (fun σ1 => (lpw (LX4_deals_7 x1 x2) ((0 : Int32), σ1)).bind (fun b6 => (lpw (LX4_deals_44 x1 x2) ((0 : Int32), b6)).bind (fun b11 => some b11)))
theorem wi_X4_deals : wInfV yX4_deals cX4_deals 5 (Option.none : Option Jvm.ClassFile.FieldType) 2 := ⟨q3035, qs100, q116, q3036, (by decide +kernel), (by decide +kernel), (by decide +kernel)⟩
set_option maxHeartbeats 4000000 in
set_option maxRecDepth 100000 in
theorem wbLX4_deals_7 {l : Launch} {G : mG} {p : Program} {e : Env} {s : State} {m : MethodId} {args : Array Value} {below : List Frame} {meth : Method} {c : Code} {Q : State → Prop} {y1 : Int32} {y2 : Int32} {q : Int32 × mS} {res : (Int32 × mS) ⊕ (mS)} (S : mSt G p m c cX4_deals 5 s args meth (Option.none : Option Jvm.ClassFile.FieldType)) (hf : LX4_deals_7 y1 y2 q = some res) (hK : ∀ q, res = Sum.inl q → (∀ (H : Heap) (locs : List Loc) (ls : Array Slot), mR G q.2 H → va_S (mA G) s.heap H locs → lv_has ls 5 [(0, .ref (mo G)), (1, .int y1), (2, .int y2), (3, .int q.1)] → W p l e (mRm 1 23) s m args below meth c H locs 0 0 Q (F0 m 7 ls []))) (hE42 : ∀ b, res = Sum.inr b → (∀ (H : Heap) (locs : List Loc) (ls : Array Slot), mR G b H → va_S (mA G) s.heap H locs → lv_has ls 5 [(0, .ref (mo G)), (1, .int y1), (2, .int y2)] → W p l e (mRm 1 23) s m args below meth c H locs 0 0 Q (F0 m 42 ls []))) : (∀ (H : Heap) (locs : List Loc) (ls : Array Slot), mR G q.2 H → va_S (mA G) s.heap H locs → lv_has ls 5 [(0, .ref (mo G)), (1, .int y1), (2, .int y2), (3, .int q.1)] → W p l e (mRm 1 23) s m args below meth c H locs 0 0 Q (F0 m 7 ls [])) := by
  replace hf : (if y1 ≤ q.1 then some (Sum.inr q.2) else (fX4_draw q.2).bind (fun e2 => (some (irm e2.1 (6 : Int32))).bind (fun v3 => (fX4_draw e2.2).bind (fun e4 => (fX4_comes v3 ((1 : Int32) + (irm e4.1 (9 : Int32))) e4.2).bind (fun e5 => some (Sum.inl (q.1 + (1 : Int32), e5))))))) = some res := hf
  obtain ⟨hx, hb, hml, hown, hts⟩ := S.1.1
  intro H locs ls hR hS hl
  refine lv_iload_n hx hb dX4_deals_7 rfl (lv_at hl 3 rfl) ?_
  refine lv_iload_n hx hb dX4_deals_8 rfl (lv_at hl 1 rfl) ?_
  refine lv_icmp_ge (tgt := 42) hx hb dX4_deals_9 (by decide) (fun c_9 => ?_) (fun c_9 => ?_)
  · replace hf := o_t hf c_9
    exact hE42 _ (Option.some.inj hf).symm _ _ _ hR hS (lv_sub (l' := [(0, .ref (mo G)), (1, .int y1), (2, .int y2)]) hl [0, 1, 2] rfl)
  · replace hf := o_f hf c_9
    refine lv_aload_n hx hb dX4_deals_12 rfl (lv_at hl 0 rfl) ?_
    refine k_bind hf (fun e2 he2 hf => ?_)
    refine m_call (As := []) (rest := []) S hR hS (met_X4_draw he2) wi_X4_draw rfl q3037 ⟨rfl, rfl⟩ ⟨Nat.le_of_ble_eq_true rfl, Nat.le_of_ble_eq_true rfl⟩ rfl hl.1 rfl (Nat.le_of_ble_eq_true rfl) dX4_deals_13 (fun H locs hR hS => ?_)
    refine lv_bipush (v := 6) hx hb dX4_deals_16 (by decide) ?_
    refine lv_irem hx hb dX4_deals_18 (by decide) ?_
    refine k_bind hf (fun v3 hv3 hf => ?_)
    refine m_nmi hv3 ?_
    refine lv_istore (lv' := [(4, .int v3), (0, .ref (mo G)), (1, .int y1), (2, .int y2), (3, .int q.1)]) hx hb dX4_deals_19 hl (by decide) rfl (fun ls hl => ?_)
    refine lv_aload_n hx hb dX4_deals_21 rfl (lv_at hl 1 rfl) ?_
    refine lv_iload hx hb dX4_deals_22 (lv_at hl 0 rfl) ?_
    refine lv_iconst (v := 1) hx hb dX4_deals_24 (by decide) ?_
    refine lv_aload_n hx hb dX4_deals_25 rfl (lv_at hl 1 rfl) ?_
    refine k_bind hf (fun e4 he4 hf => ?_)
    refine m_call (As := []) (rest := [.int (1 : Int32), .int v3, .ref (mo G)]) S hR hS (met_X4_draw he4) wi_X4_draw rfl q3037 ⟨rfl, rfl⟩ ⟨Nat.le_of_ble_eq_true rfl, Nat.le_of_ble_eq_true rfl⟩ rfl hl.1 rfl (Nat.le_of_ble_eq_true rfl) dX4_deals_26 (fun H locs hR hS => ?_)
    refine lv_bipush (v := 9) hx hb dX4_deals_29 (by decide) ?_
    refine lv_irem hx hb dX4_deals_31 (by decide) ?_
    refine lv_iadd hx hb dX4_deals_32 ?_
    refine k_bind hf (fun e5 he5 hf => ?_)
    refine m_call (As := [.int v3, .int ((1 : Int32) + (irm e4.1 (9 : Int32)))]) (rest := []) S hR hS (met_X4_comes he5) wi_X4_comes rfl q2684 ⟨rfl, rfl⟩ ⟨Nat.le_of_ble_eq_true rfl, Nat.le_of_ble_eq_true rfl⟩ rfl hl.1 rfl (Nat.le_of_ble_eq_true rfl) dX4_deals_33 (fun H locs hR hS => ?_)
    refine lv_iinc (lv' := [(3, .int (q.1 + (1 : Int32))), (4, .int v3), (0, .ref (mo G)), (1, .int y1), (2, .int y2)]) hx hb dX4_deals_36 hl (k := 4) rfl (m_inc (by decide)) (by decide) rfl (fun ls hl => ?_)
    refine lv_goto (tgt := 7) hx hb dX4_deals_39 (by decide) ?_
    exact hK _ (Option.some.inj hf).symm _ _ _ hR hS (lv_sub (l' := [(0, .ref (mo G)), (1, .int y1), (2, .int y2), (3, .int (q.1 + (1 : Int32)))]) hl [2, 3, 4, 0] rfl)
set_option maxHeartbeats 4000000 in
set_option maxRecDepth 100000 in
theorem wLX4_deals_7 {l : Launch} {G : mG} {p : Program} {e : Env} {s : State} {m : MethodId} {args : Array Value} {below : List Frame} {meth : Method} {c : Code} {Q : State → Prop} {y1 : Int32} {y2 : Int32} {q : Int32 × mS} {res : mS} (S : mSt G p m c cX4_deals 5 s args meth (Option.none : Option Jvm.ClassFile.FieldType)) (h : lpw (LX4_deals_7 y1 y2) q = some res) (hE42 : ∀ b, res = b → (∀ (H : Heap) (locs : List Loc) (ls : Array Slot), mR G b H → va_S (mA G) s.heap H locs → lv_has ls 5 [(0, .ref (mo G)), (1, .int y1), (2, .int y2)] → W p l e (mRm 1 23) s m args below meth c H locs 0 0 Q (F0 m 42 ls []))) : (∀ (H : Heap) (locs : List Loc) (ls : Array Slot), mR G q.2 H → va_S (mA G) s.heap H locs → lv_has ls 5 [(0, .ref (mo G)), (1, .int y1), (2, .int y2), (3, .int q.1)] → W p l e (mRm 1 23) s m args below meth c H locs 0 0 Q (F0 m 7 ls [])) :=
  lpw_go _ (fun q => (∀ (H : Heap) (locs : List Loc) (ls : Array Slot), mR G q.2 H → va_S (mA G) s.heap H locs → lv_has ls 5 [(0, .ref (mo G)), (1, .int y1), (2, .int y2), (3, .int q.1)] → W p l e (mRm 1 23) s m args below meth c H locs 0 0 Q (F0 m 7 ls []))) (fun b0 => (∀ b, b0 = b → (∀ (H : Heap) (locs : List Loc) (ls : Array Slot), mR G b H → va_S (mA G) s.heap H locs → lv_has ls 5 [(0, .ref (mo G)), (1, .int y1), (2, .int y2)] → W p l e (mRm 1 23) s m args below meth c H locs 0 0 Q (F0 m 42 ls [])))) (fun q x hf hK hX => wbLX4_deals_7 S hf hK (fun b eb => (hX _ eb) b rfl)) q res h hE42
set_option maxHeartbeats 4000000 in
set_option maxRecDepth 100000 in
theorem wbLX4_deals_54 {l : Launch} {G : mG} {p : Program} {e : Env} {s : State} {m : MethodId} {args : Array Value} {below : List Frame} {meth : Method} {c : Code} {Q : State → Prop} {y1 : Int32} {y2 : Int32} {y3 : Int32} {q : Int32 × mS} {res : (Int32 × mS) ⊕ (mS)} (S : mSt G p m c cX4_deals 5 s args meth (Option.none : Option Jvm.ClassFile.FieldType)) (hf : LX4_deals_54 y1 y2 y3 q = some res) (hK : ∀ q, res = Sum.inl q → (∀ (H : Heap) (locs : List Loc) (ls : Array Slot), mR G q.2 H → va_S (mA G) s.heap H locs → lv_has ls 5 [(0, .ref (mo G)), (1, .int y1), (2, .int y2), (3, .int y3), (4, .int q.1)] → W p l e (mRm 1 23) s m args below meth c H locs 0 0 Q (F0 m 54 ls []))) (hE85 : ∀ b, res = Sum.inr b → (∀ (H : Heap) (locs : List Loc) (ls : Array Slot), mR G b H → va_S (mA G) s.heap H locs → lv_has ls 5 [(0, .ref (mo G)), (1, .int y1), (2, .int y2), (3, .int y3)] → W p l e (mRm 1 23) s m args below meth c H locs 0 0 Q (F0 m 85 ls []))) : (∀ (H : Heap) (locs : List Loc) (ls : Array Slot), mR G q.2 H → va_S (mA G) s.heap H locs → lv_has ls 5 [(0, .ref (mo G)), (1, .int y1), (2, .int y2), (3, .int y3), (4, .int q.1)] → W p l e (mRm 1 23) s m args below meth c H locs 0 0 Q (F0 m 54 ls [])) := by
  replace hf : (if y1 ≤ q.1 then some (Sum.inr q.2) else (fX4_draw q.2).bind (fun e8 => if y2 ≤ (irm e8.1 (10 : Int32)) then some (Sum.inl (q.1 + (1 : Int32), e8.2)) else (fX4_lays y3 q.1 (1 : Int32) e8.2).bind (fun e9 => some (Sum.inl (q.1 + (1 : Int32), e9))))) = some res := hf
  obtain ⟨hx, hb, hml, hown, hts⟩ := S.1.1
  intro H locs ls hR hS hl
  refine lv_iload hx hb dX4_deals_54 (lv_at hl 4 rfl) ?_
  refine lv_iload_n hx hb dX4_deals_56 rfl (lv_at hl 1 rfl) ?_
  refine lv_icmp_ge (tgt := 85) hx hb dX4_deals_57 (by decide) (fun c_57 => ?_) (fun c_57 => ?_)
  · replace hf := o_t hf c_57
    exact hE85 _ (Option.some.inj hf).symm _ _ _ hR hS (lv_sub (l' := [(0, .ref (mo G)), (1, .int y1), (2, .int y2), (3, .int y3)]) hl [0, 1, 2, 3] rfl)
  · replace hf := o_f hf c_57
    refine lv_aload_n hx hb dX4_deals_60 rfl (lv_at hl 0 rfl) ?_
    refine k_bind hf (fun e8 he8 hf => ?_)
    refine m_call (As := []) (rest := []) S hR hS (met_X4_draw he8) wi_X4_draw rfl q3037 ⟨rfl, rfl⟩ ⟨Nat.le_of_ble_eq_true rfl, Nat.le_of_ble_eq_true rfl⟩ rfl hl.1 rfl (Nat.le_of_ble_eq_true rfl) dX4_deals_61 (fun H locs hR hS => ?_)
    refine lv_bipush (v := 10) hx hb dX4_deals_64 (by decide) ?_
    refine lv_irem hx hb dX4_deals_66 (by decide) ?_
    refine lv_iload_n hx hb dX4_deals_67 rfl (lv_at hl 2 rfl) ?_
    refine lv_icmp_ge (tgt := 79) hx hb dX4_deals_68 (by decide) (fun c_68 => ?_) (fun c_68 => ?_)
    · replace hf := o_t hf c_68
      refine lv_iinc (lv' := [(4, .int (q.1 + (1 : Int32))), (0, .ref (mo G)), (1, .int y1), (2, .int y2), (3, .int y3)]) hx hb dX4_deals_79 hl (k := 4) rfl (m_inc (by decide)) (by decide) rfl (fun ls hl => ?_)
      refine lv_goto (tgt := 54) hx hb dX4_deals_82 (by decide) ?_
      exact hK _ (Option.some.inj hf).symm _ _ _ hR hS (lv_sub (l' := [(0, .ref (mo G)), (1, .int y1), (2, .int y2), (3, .int y3), (4, .int (q.1 + (1 : Int32)))]) hl [1, 2, 3, 4, 0] rfl)
    · replace hf := o_f hf c_68
      refine lv_aload_n hx hb dX4_deals_71 rfl (lv_at hl 0 rfl) ?_
      refine lv_iload_n hx hb dX4_deals_72 rfl (lv_at hl 3 rfl) ?_
      refine lv_iload hx hb dX4_deals_73 (lv_at hl 4 rfl) ?_
      refine lv_iconst (v := 1) hx hb dX4_deals_75 (by decide) ?_
      refine k_bind hf (fun e9 he9 hf => ?_)
      refine m_call (As := [.int y3, .int q.1, .int (1 : Int32)]) (rest := []) S hR hS (met_X4_lays he9) wi_X4_lays rfl q2700 ⟨rfl, rfl⟩ ⟨Nat.le_of_ble_eq_true rfl, Nat.le_of_ble_eq_true rfl⟩ rfl hl.1 rfl (Nat.le_of_ble_eq_true rfl) dX4_deals_76 (fun H locs hR hS => ?_)
      refine lv_iinc (lv' := [(4, .int (q.1 + (1 : Int32))), (0, .ref (mo G)), (1, .int y1), (2, .int y2), (3, .int y3)]) hx hb dX4_deals_79 hl (k := 4) rfl (m_inc (by decide)) (by decide) rfl (fun ls hl => ?_)
      refine lv_goto (tgt := 54) hx hb dX4_deals_82 (by decide) ?_
      exact hK _ (Option.some.inj hf).symm _ _ _ hR hS (lv_sub (l' := [(0, .ref (mo G)), (1, .int y1), (2, .int y2), (3, .int y3), (4, .int (q.1 + (1 : Int32)))]) hl [1, 2, 3, 4, 0] rfl)
set_option maxHeartbeats 4000000 in
set_option maxRecDepth 100000 in
theorem wLX4_deals_54 {l : Launch} {G : mG} {p : Program} {e : Env} {s : State} {m : MethodId} {args : Array Value} {below : List Frame} {meth : Method} {c : Code} {Q : State → Prop} {y1 : Int32} {y2 : Int32} {y3 : Int32} {q : Int32 × mS} {res : mS} (S : mSt G p m c cX4_deals 5 s args meth (Option.none : Option Jvm.ClassFile.FieldType)) (h : lpw (LX4_deals_54 y1 y2 y3) q = some res) (hE85 : ∀ b, res = b → (∀ (H : Heap) (locs : List Loc) (ls : Array Slot), mR G b H → va_S (mA G) s.heap H locs → lv_has ls 5 [(0, .ref (mo G)), (1, .int y1), (2, .int y2), (3, .int y3)] → W p l e (mRm 1 23) s m args below meth c H locs 0 0 Q (F0 m 85 ls []))) : (∀ (H : Heap) (locs : List Loc) (ls : Array Slot), mR G q.2 H → va_S (mA G) s.heap H locs → lv_has ls 5 [(0, .ref (mo G)), (1, .int y1), (2, .int y2), (3, .int y3), (4, .int q.1)] → W p l e (mRm 1 23) s m args below meth c H locs 0 0 Q (F0 m 54 ls [])) :=
  lpw_go _ (fun q => (∀ (H : Heap) (locs : List Loc) (ls : Array Slot), mR G q.2 H → va_S (mA G) s.heap H locs → lv_has ls 5 [(0, .ref (mo G)), (1, .int y1), (2, .int y2), (3, .int y3), (4, .int q.1)] → W p l e (mRm 1 23) s m args below meth c H locs 0 0 Q (F0 m 54 ls []))) (fun b0 => (∀ b, b0 = b → (∀ (H : Heap) (locs : List Loc) (ls : Array Slot), mR G b H → va_S (mA G) s.heap H locs → lv_has ls 5 [(0, .ref (mo G)), (1, .int y1), (2, .int y2), (3, .int y3)] → W p l e (mRm 1 23) s m args below meth c H locs 0 0 Q (F0 m 85 ls [])))) (fun q x hf hK hX => wbLX4_deals_54 S hf hK (fun b eb => (hX _ eb) b rfl)) q res h hE85
set_option maxHeartbeats 4000000 in
set_option maxRecDepth 100000 in
theorem wbLX4_deals_44 {l : Launch} {G : mG} {p : Program} {e : Env} {s : State} {m : MethodId} {args : Array Value} {below : List Frame} {meth : Method} {c : Code} {Q : State → Prop} {y1 : Int32} {y2 : Int32} {q : Int32 × mS} {res : (Int32 × mS) ⊕ (mS)} (S : mSt G p m c cX4_deals 5 s args meth (Option.none : Option Jvm.ClassFile.FieldType)) (hf : LX4_deals_44 y1 y2 q = some res) (hK : ∀ q, res = Sum.inl q → (∀ (H : Heap) (locs : List Loc) (ls : Array Slot), mR G q.2 H → va_S (mA G) s.heap H locs → lv_has ls 5 [(0, .ref (mo G)), (1, .int y1), (2, .int y2), (3, .int q.1)] → W p l e (mRm 1 23) s m args below meth c H locs 0 0 Q (F0 m 44 ls []))) (hE91 : ∀ b, res = Sum.inr b → (∀ (H : Heap) (locs : List Loc) (ls : Array Slot), mR G b H → va_S (mA G) s.heap H locs → lv_has ls 5 [(0, .ref (mo G))] → W p l e (mRm 1 23) s m args below meth c H locs 0 0 Q (F0 m 91 ls []))) : (∀ (H : Heap) (locs : List Loc) (ls : Array Slot), mR G q.2 H → va_S (mA G) s.heap H locs → lv_has ls 5 [(0, .ref (mo G)), (1, .int y1), (2, .int y2), (3, .int q.1)] → W p l e (mRm 1 23) s m args below meth c H locs 0 0 Q (F0 m 44 ls [])) := by
  replace hf : (if y1 ≤ q.1 then some (Sum.inr q.2) else (some (q.1 + (1 : Int32))).bind (fun v7 => (lpw (LX4_deals_54 y1 y2 q.1) (v7, q.2)).bind (fun b10 => some (Sum.inl (q.1 + (1 : Int32), b10))))) = some res := hf
  obtain ⟨hx, hb, hml, hown, hts⟩ := S.1.1
  intro H locs ls hR hS hl
  refine lv_iload_n hx hb dX4_deals_44 rfl (lv_at hl 3 rfl) ?_
  refine lv_iload_n hx hb dX4_deals_45 rfl (lv_at hl 1 rfl) ?_
  refine lv_icmp_ge (tgt := 91) hx hb dX4_deals_46 (by decide) (fun c_46 => ?_) (fun c_46 => ?_)
  · replace hf := o_t hf c_46
    exact hE91 _ (Option.some.inj hf).symm _ _ _ hR hS (lv_sub (l' := [(0, .ref (mo G))]) hl [0] rfl)
  · replace hf := o_f hf c_46
    refine lv_iload_n hx hb dX4_deals_49 rfl (lv_at hl 3 rfl) ?_
    refine lv_iconst (v := 1) hx hb dX4_deals_50 (by decide) ?_
    refine lv_iadd hx hb dX4_deals_51 ?_
    refine k_bind hf (fun v7 hv7 hf => ?_)
    refine m_nmi hv7 ?_
    refine lv_istore (lv' := [(4, .int v7), (0, .ref (mo G)), (1, .int y1), (2, .int y2), (3, .int q.1)]) hx hb dX4_deals_52 hl (by decide) rfl (fun ls hl => ?_)
    refine k_bind hf (fun b10 hb10 hf => ?_)
    refine wLX4_deals_54 S hb10 ?_ _ _ _ hR hS (lv_sub (l' := [(0, .ref (mo G)), (1, .int y1), (2, .int y2), (3, .int q.1), (4, .int v7)]) hl [1, 2, 3, 4, 0] rfl)
    · intro b eb; subst eb; intro H locs ls hR hS hl
      refine lv_iinc (lv' := [(3, .int (q.1 + (1 : Int32))), (0, .ref (mo G)), (1, .int y1), (2, .int y2)]) hx hb dX4_deals_85 hl (k := 3) rfl (m_inc (by decide)) (by decide) rfl (fun ls hl => ?_)
      refine lv_goto (tgt := 44) hx hb dX4_deals_88 (by decide) ?_
      exact hK _ (Option.some.inj hf).symm _ _ _ hR hS (lv_sub (l' := [(0, .ref (mo G)), (1, .int y1), (2, .int y2), (3, .int (q.1 + (1 : Int32)))]) hl [1, 2, 3, 0] rfl)
set_option maxHeartbeats 4000000 in
set_option maxRecDepth 100000 in
theorem wLX4_deals_44 {l : Launch} {G : mG} {p : Program} {e : Env} {s : State} {m : MethodId} {args : Array Value} {below : List Frame} {meth : Method} {c : Code} {Q : State → Prop} {y1 : Int32} {y2 : Int32} {q : Int32 × mS} {res : mS} (S : mSt G p m c cX4_deals 5 s args meth (Option.none : Option Jvm.ClassFile.FieldType)) (h : lpw (LX4_deals_44 y1 y2) q = some res) (hE91 : ∀ b, res = b → (∀ (H : Heap) (locs : List Loc) (ls : Array Slot), mR G b H → va_S (mA G) s.heap H locs → lv_has ls 5 [(0, .ref (mo G))] → W p l e (mRm 1 23) s m args below meth c H locs 0 0 Q (F0 m 91 ls []))) : (∀ (H : Heap) (locs : List Loc) (ls : Array Slot), mR G q.2 H → va_S (mA G) s.heap H locs → lv_has ls 5 [(0, .ref (mo G)), (1, .int y1), (2, .int y2), (3, .int q.1)] → W p l e (mRm 1 23) s m args below meth c H locs 0 0 Q (F0 m 44 ls [])) :=
  lpw_go _ (fun q => (∀ (H : Heap) (locs : List Loc) (ls : Array Slot), mR G q.2 H → va_S (mA G) s.heap H locs → lv_has ls 5 [(0, .ref (mo G)), (1, .int y1), (2, .int y2), (3, .int q.1)] → W p l e (mRm 1 23) s m args below meth c H locs 0 0 Q (F0 m 44 ls []))) (fun b0 => (∀ b, b0 = b → (∀ (H : Heap) (locs : List Loc) (ls : Array Slot), mR G b H → va_S (mA G) s.heap H locs → lv_has ls 5 [(0, .ref (mo G))] → W p l e (mRm 1 23) s m args below meth c H locs 0 0 Q (F0 m 91 ls [])))) (fun q x hf hK hX => wbLX4_deals_44 S hf hK (fun b eb => (hX _ eb) b rfl)) q res h hE91
set_option maxHeartbeats 4000000 in
set_option maxRecDepth 100000 in
theorem met_X4_deals {l : Launch} {G : mG} {x1 : Int32} {x2 : Int32} {σ : mS} {res : mS} (hf : fX4_deals x1 x2 σ = some res) : mMet l yX4_deals cX4_deals 5 (Option.none : Option Jvm.ClassFile.FieldType) (mRm 1 23) G [.ref (mo G), .int x1, .int x2] σ none res := by
  replace hf : ((mput σ 0 (0 : Int32)).bind (fun σ1 => (lpw (LX4_deals_7 x1 x2) ((0 : Int32), σ1)).bind (fun b6 => (lpw (LX4_deals_44 x1 x2) ((0 : Int32), b6)).bind (fun b11 => some b11)))) = some res := hf
  refine m_start (by decide) rfl (Nat.le_of_ble_eq_true rfl) ?_
  intro p e s m args below meth c S hR hS ls hl
  obtain ⟨hx, hb, hml, hown, hts⟩ := S.1.1
  have hl : lv_has ls 5 [(0, .ref (mo G)), (1, .int x1), (2, .int x2)] := hl
  refine lv_aload_n hx hb dX4_deals_0 rfl (lv_at hl 0 rfl) ?_
  refine lv_iconst (v := 0) hx hb dX4_deals_1 (by decide) ?_
  refine k_bind hf (fun σ1 hσ1 hf => ?_)
  refine m_puti (k := 0) S hR hS hσ1 (by decide) (by decide) rfl rfl rfl rfl q2526 dX4_deals_2 (fun H locs hR hS => ?_)
  refine lv_iconst (v := 0) hx hb dX4_deals_5 (by decide) ?_
  refine lv_istore_n (lv' := [(3, .int (0 : Int32)), (0, .ref (mo G)), (1, .int x1), (2, .int x2)]) hx hb dX4_deals_6 rfl hl (by decide) rfl (fun ls hl => ?_)
  refine k_bind hf (fun b6 hb6 hf => ?_)
  refine wLX4_deals_7 S hb6 ?_ _ _ _ hR hS (lv_sub (l' := [(0, .ref (mo G)), (1, .int x1), (2, .int x2), (3, .int (0 : Int32))]) hl [1, 2, 3, 0] rfl)
  · intro b eb; subst eb; intro H locs ls hR hS hl
    refine lv_iconst (v := 0) hx hb dX4_deals_42 (by decide) ?_
    refine lv_istore_n (lv' := [(3, .int (0 : Int32)), (0, .ref (mo G)), (1, .int x1), (2, .int x2)]) hx hb dX4_deals_43 rfl hl (by decide) rfl (fun ls hl => ?_)
    refine k_bind hf (fun b11 hb11 hf => ?_)
    refine wLX4_deals_44 S hb11 ?_ _ _ _ hR hS (lv_sub (l' := [(0, .ref (mo G)), (1, .int x1), (2, .int x2), (3, .int (0 : Int32))]) hl [1, 2, 3, 0] rfl)
    · intro b eb; subst eb; intro H locs ls hR hS hl
      obtain rfl := Option.some.inj hf
      exact m_vret S hR hS dX4_deals_91

noncomputable def fX4_deal (x1 : Int32) (x2 : Int32) (σ : mS) : Option (Int32 × mS) :=
  if (fX4_in x1 (0 : Int32) (12 : Int32)) = (0 : Int32) then some ((-2 : Int32), σ) else if (fX4_in x2 (0 : Int32) (10 : Int32)) = (0 : Int32) then some ((-2 : Int32), σ) else (fX4_deals x1 x2 σ).bind (fun e1 => (fX4_lineMany e1).bind (fun v2 => some (v2, e1)))
theorem wi_X4_deal : wInfV yX4_deal cX4_deal 3 (Option.some Jvm.ClassFile.FieldType.int) 2 := ⟨q3030, q3031, q116, q3032, (by decide +kernel), (by decide +kernel), (by decide +kernel)⟩
set_option maxHeartbeats 4000000 in
set_option maxRecDepth 100000 in
theorem met_X4_deal {l : Launch} {G : mG} {x1 : Int32} {x2 : Int32} {σ : mS} {res : Int32 × mS} (hf : fX4_deal x1 x2 σ = some res) : mMet l yX4_deal cX4_deal 3 (Option.some Jvm.ClassFile.FieldType.int) (mRm 2 47) G [.ref (mo G), .int x1, .int x2] σ (some (.int res.1)) res.2 := by
  replace hf : (if (fX4_in x1 (0 : Int32) (12 : Int32)) = (0 : Int32) then some ((-2 : Int32), σ) else if (fX4_in x2 (0 : Int32) (10 : Int32)) = (0 : Int32) then some ((-2 : Int32), σ) else (fX4_deals x1 x2 σ).bind (fun e1 => (fX4_lineMany e1).bind (fun v2 => some (v2, e1)))) = some res := hf
  refine m_start (by decide) rfl (Nat.le_of_ble_eq_true rfl) ?_
  intro p e s m args below meth c S hR hS ls hl
  obtain ⟨hx, hb, hml, hown, hts⟩ := S.1.1
  have hl : lv_has ls 3 [(0, .ref (mo G)), (1, .int x1), (2, .int x2)] := hl
  refine lv_iload_n hx hb dX4_deal_0 rfl (lv_at hl 1 rfl) ?_
  refine lv_iconst (v := 0) hx hb dX4_deal_1 (by decide) ?_
  refine lv_bipush (v := 12) hx hb dX4_deal_2 (by decide) ?_
  refine s_call (As := [.int x1, .int (0 : Int32), .int (12 : Int32)]) (rest := []) S.1.1 (met_X4_in rfl) wi_X4_in q2681 ⟨rfl, rfl⟩ ⟨Nat.le_of_ble_eq_true rfl, Nat.le_of_ble_eq_true rfl⟩ rfl hl.1 rfl (Nat.le_of_ble_eq_true rfl) dX4_deal_4 ⟨Nat.zero_le _, Nat.zero_le _⟩ ?_
  refine lv_if_eq (tgt := 20) hx hb dX4_deal_7 (by decide) (fun c_7 => ?_) (fun c_7 => ?_)
  · replace hf := o_t hf c_7
    refine lv_bipush (v := -2) hx hb dX4_deal_20 (by decide) ?_
    obtain rfl := Option.some.inj hf
    exact m_iret S hR hS rfl dX4_deal_22
  · replace hf := o_f hf c_7
    refine lv_iload_n hx hb dX4_deal_10 rfl (lv_at hl 2 rfl) ?_
    refine lv_iconst (v := 0) hx hb dX4_deal_11 (by decide) ?_
    refine lv_bipush (v := 10) hx hb dX4_deal_12 (by decide) ?_
    refine s_call (As := [.int x2, .int (0 : Int32), .int (10 : Int32)]) (rest := []) S.1.1 (met_X4_in rfl) wi_X4_in q2681 ⟨rfl, rfl⟩ ⟨Nat.le_of_ble_eq_true rfl, Nat.le_of_ble_eq_true rfl⟩ rfl hl.1 rfl (Nat.le_of_ble_eq_true rfl) dX4_deal_14 ⟨Nat.zero_le _, Nat.zero_le _⟩ ?_
    refine lv_if_ne (tgt := 23) hx hb dX4_deal_17 (by decide) (fun c_17 => ?_) (fun c_17 => ?_)
    · replace hf := o_f hf c_17
      refine lv_aload_n hx hb dX4_deal_23 rfl (lv_at hl 0 rfl) ?_
      refine lv_iload_n hx hb dX4_deal_24 rfl (lv_at hl 1 rfl) ?_
      refine lv_iload_n hx hb dX4_deal_25 rfl (lv_at hl 2 rfl) ?_
      refine k_bind hf (fun e1 he1 hf => ?_)
      refine m_call (As := [.int x1, .int x2]) (rest := []) S hR hS (met_X4_deals he1) wi_X4_deals rfl q3033 ⟨rfl, rfl⟩ ⟨Nat.le_of_ble_eq_true rfl, Nat.le_of_ble_eq_true rfl⟩ rfl hl.1 rfl (Nat.le_of_ble_eq_true rfl) dX4_deal_26 (fun H locs hR hS => ?_)
      refine lv_aload_n hx hb dX4_deal_29 rfl (lv_at hl 0 rfl) ?_
      refine k_bind hf (fun v2 hv2 hf => ?_)
      refine m_call (As := []) (rest := []) S hR hS (met_X4_lineMany hv2) wi_X4_lineMany rfl q2726 ⟨rfl, rfl⟩ ⟨Nat.le_of_ble_eq_true rfl, Nat.le_of_ble_eq_true rfl⟩ rfl hl.1 rfl (Nat.le_of_ble_eq_true rfl) dX4_deal_30 (fun H locs hR hS => ?_)
      obtain rfl := Option.some.inj hf
      exact m_iret S hR hS rfl dX4_deal_33
    · replace hf := o_t hf c_17
      refine lv_bipush (v := -2) hx hb dX4_deal_20 (by decide) ?_
      obtain rfl := Option.some.inj hf
      exact m_iret S hR hS rfl dX4_deal_22

noncomputable def LX4_keeps_16 (y1 : Nat) (q : Int32 × mS) : Option ((Int32 × mS) ⊕ (mS)) :=
  if (12 : Int32) ≤ q.1 then some (Sum.inr q.2) else (mald q.2 2 q.1).bind (fun v3 => (mast q.2 y1 ((2 : Int32) + ((3 : Int32) * q.1)) v3).bind (fun σ4 => (mald σ4 3 q.1).bind (fun v5 => (mast σ4 y1 ((3 : Int32) + ((3 : Int32) * q.1)) v5).bind (fun σ6 => (mald σ6 4 q.1).bind (fun v7 => (mast σ6 y1 ((4 : Int32) + ((3 : Int32) * q.1)) v7).bind (fun σ8 => some (Sum.inl (q.1 + (1 : Int32), σ8))))))))
noncomputable def fX4_keeps (x1 : Nat) (σ : mS) : Option mS :=
  (mast σ x1 (0 : Int32) (σ.1 0)).bind (fun σ1 => (mast σ1 x1 (1 : Int32) (σ1.1 1)).bind (fun σ2 => (lpw (LX4_keeps_16 x1) ((0 : Int32), σ2)).bind (fun b9 => some b9)))
theorem wi_X4_keeps : wInfV yX4_keeps cX4_keeps 3 (Option.none : Option Jvm.ClassFile.FieldType) 1 := ⟨q3048, qs102, q116, q3049, (by decide +kernel), (by decide +kernel), (by decide +kernel)⟩
set_option maxHeartbeats 4000000 in
set_option maxRecDepth 100000 in
theorem wbLX4_keeps_16 {l : Launch} {G : mG} {p : Program} {e : Env} {s : State} {m : MethodId} {args : Array Value} {below : List Frame} {meth : Method} {c : Code} {Q : State → Prop} {y1 : Nat} {q : Int32 × mS} {res : (Int32 × mS) ⊕ (mS)} (S : mSt G p m c cX4_keeps 3 s args meth (Option.none : Option Jvm.ClassFile.FieldType)) (hf : LX4_keeps_16 y1 q = some res) (hK : ∀ q, res = Sum.inl q → (∀ (H : Heap) (locs : List Loc) (ls : Array Slot), mR G q.2 H → va_S (mA G) s.heap H locs → lv_has ls 3 [(0, .ref (mo G)), (1, .ref (mad G y1)), (2, .int q.1)] → W p l e (mRm 0 0) s m args below meth c H locs 0 0 Q (F0 m 16 ls []))) (hE67 : ∀ b, res = Sum.inr b → (∀ (H : Heap) (locs : List Loc) (ls : Array Slot), mR G b H → va_S (mA G) s.heap H locs → lv_has ls 3 [(0, .ref (mo G))] → W p l e (mRm 0 0) s m args below meth c H locs 0 0 Q (F0 m 67 ls []))) : (∀ (H : Heap) (locs : List Loc) (ls : Array Slot), mR G q.2 H → va_S (mA G) s.heap H locs → lv_has ls 3 [(0, .ref (mo G)), (1, .ref (mad G y1)), (2, .int q.1)] → W p l e (mRm 0 0) s m args below meth c H locs 0 0 Q (F0 m 16 ls [])) := by
  replace hf : (if (12 : Int32) ≤ q.1 then some (Sum.inr q.2) else (mald q.2 2 q.1).bind (fun v3 => (mast q.2 y1 ((2 : Int32) + ((3 : Int32) * q.1)) v3).bind (fun σ4 => (mald σ4 3 q.1).bind (fun v5 => (mast σ4 y1 ((3 : Int32) + ((3 : Int32) * q.1)) v5).bind (fun σ6 => (mald σ6 4 q.1).bind (fun v7 => (mast σ6 y1 ((4 : Int32) + ((3 : Int32) * q.1)) v7).bind (fun σ8 => some (Sum.inl (q.1 + (1 : Int32), σ8))))))))) = some res := hf
  obtain ⟨hx, hb, hml, hown, hts⟩ := S.1.1
  intro H locs ls hR hS hl
  refine lv_iload_n hx hb dX4_keeps_16 rfl (lv_at hl 2 rfl) ?_
  refine lv_bipush (v := 12) hx hb dX4_keeps_17 (by decide) ?_
  refine lv_icmp_ge (tgt := 67) hx hb dX4_keeps_19 (by decide) (fun c_19 => ?_) (fun c_19 => ?_)
  · replace hf := o_t hf c_19
    exact hE67 _ (Option.some.inj hf).symm _ _ _ hR hS (lv_sub (l' := [(0, .ref (mo G))]) hl [0] rfl)
  · replace hf := o_f hf c_19
    refine lv_aload_n hx hb dX4_keeps_22 rfl (lv_at hl 1 rfl) ?_
    refine lv_iconst (v := 2) hx hb dX4_keeps_23 (by decide) ?_
    refine lv_iconst (v := 3) hx hb dX4_keeps_24 (by decide) ?_
    refine lv_iload_n hx hb dX4_keeps_25 rfl (lv_at hl 2 rfl) ?_
    refine lv_imul hx hb dX4_keeps_26 ?_
    refine lv_iadd hx hb dX4_keeps_27 ?_
    refine lv_aload_n hx hb dX4_keeps_28 rfl (lv_at hl 0 rfl) ?_
    refine m_geta (k := 2) S hR (by decide) (by decide) q2528 dX4_keeps_29 ?_
    refine lv_iload_n hx hb dX4_keeps_32 rfl (lv_at hl 2 rfl) ?_
    refine k_bind hf (fun v3 hv3 hf => ?_)
    refine m_iald S hR hv3 dX4_keeps_33 ?_
    refine k_bind hf (fun σ4 hσ4 hf => ?_)
    refine m_iast S hR hS hσ4 dX4_keeps_34 (fun H locs hR hS => ?_)
    refine lv_aload_n hx hb dX4_keeps_35 rfl (lv_at hl 1 rfl) ?_
    refine lv_iconst (v := 3) hx hb dX4_keeps_36 (by decide) ?_
    refine lv_iconst (v := 3) hx hb dX4_keeps_37 (by decide) ?_
    refine lv_iload_n hx hb dX4_keeps_38 rfl (lv_at hl 2 rfl) ?_
    refine lv_imul hx hb dX4_keeps_39 ?_
    refine lv_iadd hx hb dX4_keeps_40 ?_
    refine lv_aload_n hx hb dX4_keeps_41 rfl (lv_at hl 0 rfl) ?_
    refine m_geta (k := 3) S hR (by decide) (by decide) q2529 dX4_keeps_42 ?_
    refine lv_iload_n hx hb dX4_keeps_45 rfl (lv_at hl 2 rfl) ?_
    refine k_bind hf (fun v5 hv5 hf => ?_)
    refine m_iald S hR hv5 dX4_keeps_46 ?_
    refine k_bind hf (fun σ6 hσ6 hf => ?_)
    refine m_iast S hR hS hσ6 dX4_keeps_47 (fun H locs hR hS => ?_)
    refine lv_aload_n hx hb dX4_keeps_48 rfl (lv_at hl 1 rfl) ?_
    refine lv_iconst (v := 4) hx hb dX4_keeps_49 (by decide) ?_
    refine lv_iconst (v := 3) hx hb dX4_keeps_50 (by decide) ?_
    refine lv_iload_n hx hb dX4_keeps_51 rfl (lv_at hl 2 rfl) ?_
    refine lv_imul hx hb dX4_keeps_52 ?_
    refine lv_iadd hx hb dX4_keeps_53 ?_
    refine lv_aload_n hx hb dX4_keeps_54 rfl (lv_at hl 0 rfl) ?_
    refine m_geta (k := 4) S hR (by decide) (by decide) q2530 dX4_keeps_55 ?_
    refine lv_iload_n hx hb dX4_keeps_58 rfl (lv_at hl 2 rfl) ?_
    refine k_bind hf (fun v7 hv7 hf => ?_)
    refine m_iald S hR hv7 dX4_keeps_59 ?_
    refine k_bind hf (fun σ8 hσ8 hf => ?_)
    refine m_iast S hR hS hσ8 dX4_keeps_60 (fun H locs hR hS => ?_)
    refine lv_iinc (lv' := [(2, .int (q.1 + (1 : Int32))), (0, .ref (mo G)), (1, .ref (mad G y1))]) hx hb dX4_keeps_61 hl (k := 2) rfl (m_inc (by decide)) (by decide) rfl (fun ls hl => ?_)
    refine lv_goto (tgt := 16) hx hb dX4_keeps_64 (by decide) ?_
    exact hK _ (Option.some.inj hf).symm _ _ _ hR hS (lv_sub (l' := [(0, .ref (mo G)), (1, .ref (mad G y1)), (2, .int (q.1 + (1 : Int32)))]) hl [1, 2, 0] rfl)
set_option maxHeartbeats 4000000 in
set_option maxRecDepth 100000 in
theorem wLX4_keeps_16 {l : Launch} {G : mG} {p : Program} {e : Env} {s : State} {m : MethodId} {args : Array Value} {below : List Frame} {meth : Method} {c : Code} {Q : State → Prop} {y1 : Nat} {q : Int32 × mS} {res : mS} (S : mSt G p m c cX4_keeps 3 s args meth (Option.none : Option Jvm.ClassFile.FieldType)) (h : lpw (LX4_keeps_16 y1) q = some res) (hE67 : ∀ b, res = b → (∀ (H : Heap) (locs : List Loc) (ls : Array Slot), mR G b H → va_S (mA G) s.heap H locs → lv_has ls 3 [(0, .ref (mo G))] → W p l e (mRm 0 0) s m args below meth c H locs 0 0 Q (F0 m 67 ls []))) : (∀ (H : Heap) (locs : List Loc) (ls : Array Slot), mR G q.2 H → va_S (mA G) s.heap H locs → lv_has ls 3 [(0, .ref (mo G)), (1, .ref (mad G y1)), (2, .int q.1)] → W p l e (mRm 0 0) s m args below meth c H locs 0 0 Q (F0 m 16 ls [])) :=
  lpw_go _ (fun q => (∀ (H : Heap) (locs : List Loc) (ls : Array Slot), mR G q.2 H → va_S (mA G) s.heap H locs → lv_has ls 3 [(0, .ref (mo G)), (1, .ref (mad G y1)), (2, .int q.1)] → W p l e (mRm 0 0) s m args below meth c H locs 0 0 Q (F0 m 16 ls []))) (fun b0 => (∀ b, b0 = b → (∀ (H : Heap) (locs : List Loc) (ls : Array Slot), mR G b H → va_S (mA G) s.heap H locs → lv_has ls 3 [(0, .ref (mo G))] → W p l e (mRm 0 0) s m args below meth c H locs 0 0 Q (F0 m 67 ls [])))) (fun q x hf hK hX => wbLX4_keeps_16 S hf hK (fun b eb => (hX _ eb) b rfl)) q res h hE67
set_option maxHeartbeats 4000000 in
set_option maxRecDepth 100000 in
theorem met_X4_keeps {l : Launch} {G : mG} {x1 : Nat} {σ : mS} {res : mS} (hf : fX4_keeps x1 σ = some res) : mMet l yX4_keeps cX4_keeps 3 (Option.none : Option Jvm.ClassFile.FieldType) (mRm 0 0) G [.ref (mo G), .ref (mad G x1)] σ none res := by
  replace hf : ((mast σ x1 (0 : Int32) (σ.1 0)).bind (fun σ1 => (mast σ1 x1 (1 : Int32) (σ1.1 1)).bind (fun σ2 => (lpw (LX4_keeps_16 x1) ((0 : Int32), σ2)).bind (fun b9 => some b9)))) = some res := hf
  refine m_start (by decide) rfl (Nat.le_of_ble_eq_true rfl) ?_
  intro p e s m args below meth c S hR hS ls hl
  obtain ⟨hx, hb, hml, hown, hts⟩ := S.1.1
  have hl : lv_has ls 3 [(0, .ref (mo G)), (1, .ref (mad G x1))] := hl
  refine lv_aload_n hx hb dX4_keeps_0 rfl (lv_at hl 1 rfl) ?_
  refine lv_iconst (v := 0) hx hb dX4_keeps_1 (by decide) ?_
  refine lv_aload_n hx hb dX4_keeps_2 rfl (lv_at hl 0 rfl) ?_
  refine m_geti (k := 0) S hR (by decide) (by decide) q2526 dX4_keeps_3 ?_
  refine k_bind hf (fun σ1 hσ1 hf => ?_)
  refine m_iast S hR hS hσ1 dX4_keeps_6 (fun H locs hR hS => ?_)
  refine lv_aload_n hx hb dX4_keeps_7 rfl (lv_at hl 1 rfl) ?_
  refine lv_iconst (v := 1) hx hb dX4_keeps_8 (by decide) ?_
  refine lv_aload_n hx hb dX4_keeps_9 rfl (lv_at hl 0 rfl) ?_
  refine m_geti (k := 1) S hR (by decide) (by decide) q2527 dX4_keeps_10 ?_
  refine k_bind hf (fun σ2 hσ2 hf => ?_)
  refine m_iast S hR hS hσ2 dX4_keeps_13 (fun H locs hR hS => ?_)
  refine lv_iconst (v := 0) hx hb dX4_keeps_14 (by decide) ?_
  refine lv_istore_n (lv' := [(2, .int (0 : Int32)), (0, .ref (mo G)), (1, .ref (mad G x1))]) hx hb dX4_keeps_15 rfl hl (by decide) rfl (fun ls hl => ?_)
  refine k_bind hf (fun b9 hb9 hf => ?_)
  refine wLX4_keeps_16 S hb9 ?_ _ _ _ hR hS (lv_sub (l' := [(0, .ref (mo G)), (1, .ref (mad G x1)), (2, .int (0 : Int32))]) hl [1, 2, 0] rfl)
  · intro b eb; subst eb; intro H locs ls hR hS hl
    obtain rfl := Option.some.inj hf
    exact m_vret S hR hS dX4_keeps_67

noncomputable def LX4_putsBack_16 (y1 : Nat) (q : Int32 × mS) : Option ((Int32 × mS) ⊕ (mS)) :=
  if (12 : Int32) ≤ q.1 then some (Sum.inr q.2) else (mald q.2 y1 ((2 : Int32) + ((3 : Int32) * q.1))).bind (fun v5 => (mast q.2 2 q.1 v5).bind (fun σ6 => (mald σ6 y1 ((3 : Int32) + ((3 : Int32) * q.1))).bind (fun v7 => (mast σ6 3 q.1 v7).bind (fun σ8 => (mald σ8 y1 ((4 : Int32) + ((3 : Int32) * q.1))).bind (fun v9 => (mast σ8 4 q.1 v9).bind (fun σ10 => some (Sum.inl (q.1 + (1 : Int32), σ10))))))))
noncomputable def fX4_putsBack (x1 : Nat) (σ : mS) : Option mS :=
  (mald σ x1 (0 : Int32)).bind (fun v1 => (mput σ 0 v1).bind (fun σ2 => (mald σ2 x1 (1 : Int32)).bind (fun v3 => (mput σ2 1 v3).bind (fun σ4 => (lpw (LX4_putsBack_16 x1) ((0 : Int32), σ4)).bind (fun b11 => some b11)))))
theorem wi_X4_putsBack : wInfV yX4_putsBack cX4_putsBack 3 (Option.none : Option Jvm.ClassFile.FieldType) 1 := ⟨q3052, qs103, q116, q3053, (by decide +kernel), (by decide +kernel), (by decide +kernel)⟩
set_option maxHeartbeats 4000000 in
set_option maxRecDepth 100000 in
theorem wbLX4_putsBack_16 {l : Launch} {G : mG} {p : Program} {e : Env} {s : State} {m : MethodId} {args : Array Value} {below : List Frame} {meth : Method} {c : Code} {Q : State → Prop} {y1 : Nat} {q : Int32 × mS} {res : (Int32 × mS) ⊕ (mS)} (S : mSt G p m c cX4_putsBack 3 s args meth (Option.none : Option Jvm.ClassFile.FieldType)) (hf : LX4_putsBack_16 y1 q = some res) (hK : ∀ q, res = Sum.inl q → (∀ (H : Heap) (locs : List Loc) (ls : Array Slot), mR G q.2 H → va_S (mA G) s.heap H locs → lv_has ls 3 [(0, .ref (mo G)), (1, .ref (mad G y1)), (2, .int q.1)] → W p l e (mRm 0 0) s m args below meth c H locs 0 0 Q (F0 m 16 ls []))) (hE67 : ∀ b, res = Sum.inr b → (∀ (H : Heap) (locs : List Loc) (ls : Array Slot), mR G b H → va_S (mA G) s.heap H locs → lv_has ls 3 [(0, .ref (mo G))] → W p l e (mRm 0 0) s m args below meth c H locs 0 0 Q (F0 m 67 ls []))) : (∀ (H : Heap) (locs : List Loc) (ls : Array Slot), mR G q.2 H → va_S (mA G) s.heap H locs → lv_has ls 3 [(0, .ref (mo G)), (1, .ref (mad G y1)), (2, .int q.1)] → W p l e (mRm 0 0) s m args below meth c H locs 0 0 Q (F0 m 16 ls [])) := by
  replace hf : (if (12 : Int32) ≤ q.1 then some (Sum.inr q.2) else (mald q.2 y1 ((2 : Int32) + ((3 : Int32) * q.1))).bind (fun v5 => (mast q.2 2 q.1 v5).bind (fun σ6 => (mald σ6 y1 ((3 : Int32) + ((3 : Int32) * q.1))).bind (fun v7 => (mast σ6 3 q.1 v7).bind (fun σ8 => (mald σ8 y1 ((4 : Int32) + ((3 : Int32) * q.1))).bind (fun v9 => (mast σ8 4 q.1 v9).bind (fun σ10 => some (Sum.inl (q.1 + (1 : Int32), σ10))))))))) = some res := hf
  obtain ⟨hx, hb, hml, hown, hts⟩ := S.1.1
  intro H locs ls hR hS hl
  refine lv_iload_n hx hb dX4_putsBack_16 rfl (lv_at hl 2 rfl) ?_
  refine lv_bipush (v := 12) hx hb dX4_putsBack_17 (by decide) ?_
  refine lv_icmp_ge (tgt := 67) hx hb dX4_putsBack_19 (by decide) (fun c_19 => ?_) (fun c_19 => ?_)
  · replace hf := o_t hf c_19
    exact hE67 _ (Option.some.inj hf).symm _ _ _ hR hS (lv_sub (l' := [(0, .ref (mo G))]) hl [0] rfl)
  · replace hf := o_f hf c_19
    refine lv_aload_n hx hb dX4_putsBack_22 rfl (lv_at hl 0 rfl) ?_
    refine m_geta (k := 2) S hR (by decide) (by decide) q2528 dX4_putsBack_23 ?_
    refine lv_iload_n hx hb dX4_putsBack_26 rfl (lv_at hl 2 rfl) ?_
    refine lv_aload_n hx hb dX4_putsBack_27 rfl (lv_at hl 1 rfl) ?_
    refine lv_iconst (v := 2) hx hb dX4_putsBack_28 (by decide) ?_
    refine lv_iconst (v := 3) hx hb dX4_putsBack_29 (by decide) ?_
    refine lv_iload_n hx hb dX4_putsBack_30 rfl (lv_at hl 2 rfl) ?_
    refine lv_imul hx hb dX4_putsBack_31 ?_
    refine lv_iadd hx hb dX4_putsBack_32 ?_
    refine k_bind hf (fun v5 hv5 hf => ?_)
    refine m_iald S hR hv5 dX4_putsBack_33 ?_
    refine k_bind hf (fun σ6 hσ6 hf => ?_)
    refine m_iast S hR hS hσ6 dX4_putsBack_34 (fun H locs hR hS => ?_)
    refine lv_aload_n hx hb dX4_putsBack_35 rfl (lv_at hl 0 rfl) ?_
    refine m_geta (k := 3) S hR (by decide) (by decide) q2529 dX4_putsBack_36 ?_
    refine lv_iload_n hx hb dX4_putsBack_39 rfl (lv_at hl 2 rfl) ?_
    refine lv_aload_n hx hb dX4_putsBack_40 rfl (lv_at hl 1 rfl) ?_
    refine lv_iconst (v := 3) hx hb dX4_putsBack_41 (by decide) ?_
    refine lv_iconst (v := 3) hx hb dX4_putsBack_42 (by decide) ?_
    refine lv_iload_n hx hb dX4_putsBack_43 rfl (lv_at hl 2 rfl) ?_
    refine lv_imul hx hb dX4_putsBack_44 ?_
    refine lv_iadd hx hb dX4_putsBack_45 ?_
    refine k_bind hf (fun v7 hv7 hf => ?_)
    refine m_iald S hR hv7 dX4_putsBack_46 ?_
    refine k_bind hf (fun σ8 hσ8 hf => ?_)
    refine m_iast S hR hS hσ8 dX4_putsBack_47 (fun H locs hR hS => ?_)
    refine lv_aload_n hx hb dX4_putsBack_48 rfl (lv_at hl 0 rfl) ?_
    refine m_geta (k := 4) S hR (by decide) (by decide) q2530 dX4_putsBack_49 ?_
    refine lv_iload_n hx hb dX4_putsBack_52 rfl (lv_at hl 2 rfl) ?_
    refine lv_aload_n hx hb dX4_putsBack_53 rfl (lv_at hl 1 rfl) ?_
    refine lv_iconst (v := 4) hx hb dX4_putsBack_54 (by decide) ?_
    refine lv_iconst (v := 3) hx hb dX4_putsBack_55 (by decide) ?_
    refine lv_iload_n hx hb dX4_putsBack_56 rfl (lv_at hl 2 rfl) ?_
    refine lv_imul hx hb dX4_putsBack_57 ?_
    refine lv_iadd hx hb dX4_putsBack_58 ?_
    refine k_bind hf (fun v9 hv9 hf => ?_)
    refine m_iald S hR hv9 dX4_putsBack_59 ?_
    refine k_bind hf (fun σ10 hσ10 hf => ?_)
    refine m_iast S hR hS hσ10 dX4_putsBack_60 (fun H locs hR hS => ?_)
    refine lv_iinc (lv' := [(2, .int (q.1 + (1 : Int32))), (0, .ref (mo G)), (1, .ref (mad G y1))]) hx hb dX4_putsBack_61 hl (k := 2) rfl (m_inc (by decide)) (by decide) rfl (fun ls hl => ?_)
    refine lv_goto (tgt := 16) hx hb dX4_putsBack_64 (by decide) ?_
    exact hK _ (Option.some.inj hf).symm _ _ _ hR hS (lv_sub (l' := [(0, .ref (mo G)), (1, .ref (mad G y1)), (2, .int (q.1 + (1 : Int32)))]) hl [1, 2, 0] rfl)
set_option maxHeartbeats 4000000 in
set_option maxRecDepth 100000 in
theorem wLX4_putsBack_16 {l : Launch} {G : mG} {p : Program} {e : Env} {s : State} {m : MethodId} {args : Array Value} {below : List Frame} {meth : Method} {c : Code} {Q : State → Prop} {y1 : Nat} {q : Int32 × mS} {res : mS} (S : mSt G p m c cX4_putsBack 3 s args meth (Option.none : Option Jvm.ClassFile.FieldType)) (h : lpw (LX4_putsBack_16 y1) q = some res) (hE67 : ∀ b, res = b → (∀ (H : Heap) (locs : List Loc) (ls : Array Slot), mR G b H → va_S (mA G) s.heap H locs → lv_has ls 3 [(0, .ref (mo G))] → W p l e (mRm 0 0) s m args below meth c H locs 0 0 Q (F0 m 67 ls []))) : (∀ (H : Heap) (locs : List Loc) (ls : Array Slot), mR G q.2 H → va_S (mA G) s.heap H locs → lv_has ls 3 [(0, .ref (mo G)), (1, .ref (mad G y1)), (2, .int q.1)] → W p l e (mRm 0 0) s m args below meth c H locs 0 0 Q (F0 m 16 ls [])) :=
  lpw_go _ (fun q => (∀ (H : Heap) (locs : List Loc) (ls : Array Slot), mR G q.2 H → va_S (mA G) s.heap H locs → lv_has ls 3 [(0, .ref (mo G)), (1, .ref (mad G y1)), (2, .int q.1)] → W p l e (mRm 0 0) s m args below meth c H locs 0 0 Q (F0 m 16 ls []))) (fun b0 => (∀ b, b0 = b → (∀ (H : Heap) (locs : List Loc) (ls : Array Slot), mR G b H → va_S (mA G) s.heap H locs → lv_has ls 3 [(0, .ref (mo G))] → W p l e (mRm 0 0) s m args below meth c H locs 0 0 Q (F0 m 67 ls [])))) (fun q x hf hK hX => wbLX4_putsBack_16 S hf hK (fun b eb => (hX _ eb) b rfl)) q res h hE67
set_option maxHeartbeats 4000000 in
set_option maxRecDepth 100000 in
theorem met_X4_putsBack {l : Launch} {G : mG} {x1 : Nat} {σ : mS} {res : mS} (hf : fX4_putsBack x1 σ = some res) : mMet l yX4_putsBack cX4_putsBack 3 (Option.none : Option Jvm.ClassFile.FieldType) (mRm 0 0) G [.ref (mo G), .ref (mad G x1)] σ none res := by
  replace hf : ((mald σ x1 (0 : Int32)).bind (fun v1 => (mput σ 0 v1).bind (fun σ2 => (mald σ2 x1 (1 : Int32)).bind (fun v3 => (mput σ2 1 v3).bind (fun σ4 => (lpw (LX4_putsBack_16 x1) ((0 : Int32), σ4)).bind (fun b11 => some b11)))))) = some res := hf
  refine m_start (by decide) rfl (Nat.le_of_ble_eq_true rfl) ?_
  intro p e s m args below meth c S hR hS ls hl
  obtain ⟨hx, hb, hml, hown, hts⟩ := S.1.1
  have hl : lv_has ls 3 [(0, .ref (mo G)), (1, .ref (mad G x1))] := hl
  refine lv_aload_n hx hb dX4_putsBack_0 rfl (lv_at hl 0 rfl) ?_
  refine lv_aload_n hx hb dX4_putsBack_1 rfl (lv_at hl 1 rfl) ?_
  refine lv_iconst (v := 0) hx hb dX4_putsBack_2 (by decide) ?_
  refine k_bind hf (fun v1 hv1 hf => ?_)
  refine m_iald S hR hv1 dX4_putsBack_3 ?_
  refine k_bind hf (fun σ2 hσ2 hf => ?_)
  refine m_puti (k := 0) S hR hS hσ2 (by decide) (by decide) rfl rfl rfl rfl q2526 dX4_putsBack_4 (fun H locs hR hS => ?_)
  refine lv_aload_n hx hb dX4_putsBack_7 rfl (lv_at hl 0 rfl) ?_
  refine lv_aload_n hx hb dX4_putsBack_8 rfl (lv_at hl 1 rfl) ?_
  refine lv_iconst (v := 1) hx hb dX4_putsBack_9 (by decide) ?_
  refine k_bind hf (fun v3 hv3 hf => ?_)
  refine m_iald S hR hv3 dX4_putsBack_10 ?_
  refine k_bind hf (fun σ4 hσ4 hf => ?_)
  refine m_puti (k := 1) S hR hS hσ4 (by decide) (by decide) rfl rfl rfl rfl q2527 dX4_putsBack_11 (fun H locs hR hS => ?_)
  refine lv_iconst (v := 0) hx hb dX4_putsBack_14 (by decide) ?_
  refine lv_istore_n (lv' := [(2, .int (0 : Int32)), (0, .ref (mo G)), (1, .ref (mad G x1))]) hx hb dX4_putsBack_15 rfl hl (by decide) rfl (fun ls hl => ?_)
  refine k_bind hf (fun b11 hb11 hf => ?_)
  refine wLX4_putsBack_16 S hb11 ?_ _ _ _ hR hS (lv_sub (l' := [(0, .ref (mo G)), (1, .ref (mad G x1)), (2, .int (0 : Int32))]) hl [1, 2, 0] rfl)
  · intro b eb; subst eb; intro H locs ls hR hS hl
    obtain rfl := Option.some.inj hf
    exact m_vret S hR hS dX4_putsBack_67

noncomputable def LX4_times_58 (y1 : Int32) (y2 : Int32) (y3 : Int32) (y4 : Int32) (q : Int32 × Int32 × mS) : Option ((Int32 × Int32 × mS) ⊕ (Int32 × mS)) :=
  if y1 ≤ q.2.1 then some (Sum.inr (q.1, q.2.2)) else (fX4_deals y2 y3 q.2.2).bind (fun e2 => (fX4_least e2).bind (fun v3 => if y4 < v3 then (some (q.1 + (0 : Int32))).bind (fun v4 => some (Sum.inl (v4, q.2.1 + (1 : Int32), e2))) else (some (q.1 + (1 : Int32))).bind (fun v5 => some (Sum.inl (v5, q.2.1 + (1 : Int32), e2)))))
noncomputable def fX4_times (x1 : Int32) (x2 : Int32) (x3 : Int32) (x4 : Int32) (σ : mS) : Option (Int32 × mS) :=
  if (fX4_in x1 (1 : Int32) (20 : Int32)) = (0 : Int32) then some ((-2 : Int32), σ) else if (fX4_in x2 (0 : Int32) (12 : Int32)) = (0 : Int32) then some ((-2 : Int32), σ) else if (fX4_in x3 (0 : Int32) (10 : Int32)) = (0 : Int32) then some ((-2 : Int32), σ) else if (fX4_in x4 (0 : Int32) (12 : Int32)) = (0 : Int32) then some ((-2 : Int32), σ) else (fX4_keeps 40 σ).bind (fun e1 => (lpw (LX4_times_58 x1 x2 x3 x4) ((0 : Int32), (0 : Int32), e1)).bind (fun b6 => (fX4_putsBack 40 b6.2).bind (fun e7 => some (b6.1, e7))))
theorem wi_X4_times : wInfV yX4_times cX4_times 7 (Option.some Jvm.ClassFile.FieldType.int) 4 := ⟨q3043, q3044, q116, q3045, (by decide +kernel), (by decide +kernel), (by decide +kernel)⟩
set_option maxHeartbeats 4000000 in
set_option maxRecDepth 100000 in
theorem wbLX4_times_58 {l : Launch} {G : mG} {p : Program} {e : Env} {s : State} {m : MethodId} {args : Array Value} {below : List Frame} {meth : Method} {c : Code} {Q : State → Prop} {y1 : Int32} {y2 : Int32} {y3 : Int32} {y4 : Int32} {q : Int32 × Int32 × mS} {res : (Int32 × Int32 × mS) ⊕ (Int32 × mS)} (S : mSt G p m c cX4_times 7 s args meth (Option.some Jvm.ClassFile.FieldType.int)) (hf : LX4_times_58 y1 y2 y3 y4 q = some res) (hK : ∀ q, res = Sum.inl q → (∀ (H : Heap) (locs : List Loc) (ls : Array Slot), mR G q.2.2 H → va_S (mA G) s.heap H locs → lv_has ls 7 [(0, .ref (mo G)), (1, .int y1), (2, .int y2), (3, .int y3), (4, .int y4), (5, .int q.1), (6, .int q.2.1)] → W p l e (mRm 3 66) s m args below meth c H locs 0 0 Q (F0 m 58 ls []))) (hE95 : ∀ b, res = Sum.inr b → (∀ (H : Heap) (locs : List Loc) (ls : Array Slot), mR G b.2 H → va_S (mA G) s.heap H locs → lv_has ls 7 [(0, .ref (mo G)), (5, .int b.1)] → W p l e (mRm 3 66) s m args below meth c H locs 0 0 Q (F0 m 95 ls []))) : (∀ (H : Heap) (locs : List Loc) (ls : Array Slot), mR G q.2.2 H → va_S (mA G) s.heap H locs → lv_has ls 7 [(0, .ref (mo G)), (1, .int y1), (2, .int y2), (3, .int y3), (4, .int y4), (5, .int q.1), (6, .int q.2.1)] → W p l e (mRm 3 66) s m args below meth c H locs 0 0 Q (F0 m 58 ls [])) := by
  replace hf : (if y1 ≤ q.2.1 then some (Sum.inr (q.1, q.2.2)) else (fX4_deals y2 y3 q.2.2).bind (fun e2 => (fX4_least e2).bind (fun v3 => if y4 < v3 then (some (q.1 + (0 : Int32))).bind (fun v4 => some (Sum.inl (v4, q.2.1 + (1 : Int32), e2))) else (some (q.1 + (1 : Int32))).bind (fun v5 => some (Sum.inl (v5, q.2.1 + (1 : Int32), e2)))))) = some res := hf
  obtain ⟨hx, hb, hml, hown, hts⟩ := S.1.1
  intro H locs ls hR hS hl
  refine lv_iload hx hb dX4_times_58 (lv_at hl 6 rfl) ?_
  refine lv_iload_n hx hb dX4_times_60 rfl (lv_at hl 1 rfl) ?_
  refine lv_icmp_ge (tgt := 95) hx hb dX4_times_61 (by decide) (fun c_61 => ?_) (fun c_61 => ?_)
  · replace hf := o_t hf c_61
    exact hE95 _ (Option.some.inj hf).symm _ _ _ hR hS (lv_sub (l' := [(0, .ref (mo G)), (5, .int q.1)]) hl [0, 5] rfl)
  · replace hf := o_f hf c_61
    refine lv_aload_n hx hb dX4_times_64 rfl (lv_at hl 0 rfl) ?_
    refine lv_iload_n hx hb dX4_times_65 rfl (lv_at hl 2 rfl) ?_
    refine lv_iload_n hx hb dX4_times_66 rfl (lv_at hl 3 rfl) ?_
    refine k_bind hf (fun e2 he2 hf => ?_)
    refine m_call (As := [.int y2, .int y3]) (rest := []) S hR hS (met_X4_deals he2) wi_X4_deals rfl q3033 ⟨rfl, rfl⟩ ⟨Nat.le_of_ble_eq_true rfl, Nat.le_of_ble_eq_true rfl⟩ rfl hl.1 rfl (Nat.le_of_ble_eq_true rfl) dX4_times_67 (fun H locs hR hS => ?_)
    refine lv_iload hx hb dX4_times_70 (lv_at hl 5 rfl) ?_
    refine lv_aload_n hx hb dX4_times_72 rfl (lv_at hl 0 rfl) ?_
    refine k_bind hf (fun v3 hv3 hf => ?_)
    refine m_call (As := []) (rest := [.int q.1]) S hR hS (met_X4_least hv3) wi_X4_least rfl q2765 ⟨rfl, rfl⟩ ⟨Nat.le_of_ble_eq_true rfl, Nat.le_of_ble_eq_true rfl⟩ rfl hl.1 rfl (Nat.le_of_ble_eq_true rfl) dX4_times_73 (fun H locs hR hS => ?_)
    refine lv_iload hx hb dX4_times_76 (lv_at hl 4 rfl) ?_
    refine lv_icmp_gt (tgt := 85) hx hb dX4_times_78 (by decide) (fun c_78 => ?_) (fun c_78 => ?_)
    · replace hf := o_t hf c_78
      refine lv_iconst (v := 0) hx hb dX4_times_85 (by decide) ?_
      refine lv_iadd hx hb dX4_times_86 ?_
      refine k_bind hf (fun v4 hv4 hf => ?_)
      refine m_nmi hv4 ?_
      refine lv_istore (lv' := [(5, .int v4), (0, .ref (mo G)), (1, .int y1), (2, .int y2), (3, .int y3), (4, .int y4), (6, .int q.2.1)]) hx hb dX4_times_87 hl (by decide) rfl (fun ls hl => ?_)
      refine lv_iinc (lv' := [(6, .int (q.2.1 + (1 : Int32))), (5, .int v4), (0, .ref (mo G)), (1, .int y1), (2, .int y2), (3, .int y3), (4, .int y4)]) hx hb dX4_times_89 hl (k := 6) rfl (m_inc (by decide)) (by decide) rfl (fun ls hl => ?_)
      refine lv_goto (tgt := 58) hx hb dX4_times_92 (by decide) ?_
      exact hK _ (Option.some.inj hf).symm _ _ _ hR hS (lv_sub (l' := [(0, .ref (mo G)), (1, .int y1), (2, .int y2), (3, .int y3), (4, .int y4), (5, .int v4), (6, .int (q.2.1 + (1 : Int32)))]) hl [2, 3, 4, 5, 6, 1, 0] rfl)
    · replace hf := o_f hf c_78
      refine lv_iconst (v := 1) hx hb dX4_times_81 (by decide) ?_
      refine lv_goto (tgt := 86) hx hb dX4_times_82 (by decide) ?_
      refine lv_iadd hx hb dX4_times_86 ?_
      refine k_bind hf (fun v5 hv5 hf => ?_)
      refine m_nmi hv5 ?_
      refine lv_istore (lv' := [(5, .int v5), (0, .ref (mo G)), (1, .int y1), (2, .int y2), (3, .int y3), (4, .int y4), (6, .int q.2.1)]) hx hb dX4_times_87 hl (by decide) rfl (fun ls hl => ?_)
      refine lv_iinc (lv' := [(6, .int (q.2.1 + (1 : Int32))), (5, .int v5), (0, .ref (mo G)), (1, .int y1), (2, .int y2), (3, .int y3), (4, .int y4)]) hx hb dX4_times_89 hl (k := 6) rfl (m_inc (by decide)) (by decide) rfl (fun ls hl => ?_)
      refine lv_goto (tgt := 58) hx hb dX4_times_92 (by decide) ?_
      exact hK _ (Option.some.inj hf).symm _ _ _ hR hS (lv_sub (l' := [(0, .ref (mo G)), (1, .int y1), (2, .int y2), (3, .int y3), (4, .int y4), (5, .int v5), (6, .int (q.2.1 + (1 : Int32)))]) hl [2, 3, 4, 5, 6, 1, 0] rfl)
set_option maxHeartbeats 4000000 in
set_option maxRecDepth 100000 in
theorem wLX4_times_58 {l : Launch} {G : mG} {p : Program} {e : Env} {s : State} {m : MethodId} {args : Array Value} {below : List Frame} {meth : Method} {c : Code} {Q : State → Prop} {y1 : Int32} {y2 : Int32} {y3 : Int32} {y4 : Int32} {q : Int32 × Int32 × mS} {res : Int32 × mS} (S : mSt G p m c cX4_times 7 s args meth (Option.some Jvm.ClassFile.FieldType.int)) (h : lpw (LX4_times_58 y1 y2 y3 y4) q = some res) (hE95 : ∀ b, res = b → (∀ (H : Heap) (locs : List Loc) (ls : Array Slot), mR G b.2 H → va_S (mA G) s.heap H locs → lv_has ls 7 [(0, .ref (mo G)), (5, .int b.1)] → W p l e (mRm 3 66) s m args below meth c H locs 0 0 Q (F0 m 95 ls []))) : (∀ (H : Heap) (locs : List Loc) (ls : Array Slot), mR G q.2.2 H → va_S (mA G) s.heap H locs → lv_has ls 7 [(0, .ref (mo G)), (1, .int y1), (2, .int y2), (3, .int y3), (4, .int y4), (5, .int q.1), (6, .int q.2.1)] → W p l e (mRm 3 66) s m args below meth c H locs 0 0 Q (F0 m 58 ls [])) :=
  lpw_go _ (fun q => (∀ (H : Heap) (locs : List Loc) (ls : Array Slot), mR G q.2.2 H → va_S (mA G) s.heap H locs → lv_has ls 7 [(0, .ref (mo G)), (1, .int y1), (2, .int y2), (3, .int y3), (4, .int y4), (5, .int q.1), (6, .int q.2.1)] → W p l e (mRm 3 66) s m args below meth c H locs 0 0 Q (F0 m 58 ls []))) (fun b0 => (∀ b, b0 = b → (∀ (H : Heap) (locs : List Loc) (ls : Array Slot), mR G b.2 H → va_S (mA G) s.heap H locs → lv_has ls 7 [(0, .ref (mo G)), (5, .int b.1)] → W p l e (mRm 3 66) s m args below meth c H locs 0 0 Q (F0 m 95 ls [])))) (fun q x hf hK hX => wbLX4_times_58 S hf hK (fun b eb => (hX _ eb) b rfl)) q res h hE95
set_option maxHeartbeats 4000000 in
set_option maxRecDepth 100000 in
theorem met_X4_times {l : Launch} {G : mG} {x1 : Int32} {x2 : Int32} {x3 : Int32} {x4 : Int32} {σ : mS} {res : Int32 × mS} (hf : fX4_times x1 x2 x3 x4 σ = some res) : mMet l yX4_times cX4_times 7 (Option.some Jvm.ClassFile.FieldType.int) (mRm 3 66) G [.ref (mo G), .int x1, .int x2, .int x3, .int x4] σ (some (.int res.1)) res.2 := by
  replace hf : (if (fX4_in x1 (1 : Int32) (20 : Int32)) = (0 : Int32) then some ((-2 : Int32), σ) else if (fX4_in x2 (0 : Int32) (12 : Int32)) = (0 : Int32) then some ((-2 : Int32), σ) else if (fX4_in x3 (0 : Int32) (10 : Int32)) = (0 : Int32) then some ((-2 : Int32), σ) else if (fX4_in x4 (0 : Int32) (12 : Int32)) = (0 : Int32) then some ((-2 : Int32), σ) else (fX4_keeps 40 σ).bind (fun e1 => (lpw (LX4_times_58 x1 x2 x3 x4) ((0 : Int32), (0 : Int32), e1)).bind (fun b6 => (fX4_putsBack 40 b6.2).bind (fun e7 => some (b6.1, e7))))) = some res := hf
  refine m_start (by decide) rfl (Nat.le_of_ble_eq_true rfl) ?_
  intro p e s m args below meth c S hR hS ls hl
  obtain ⟨hx, hb, hml, hown, hts⟩ := S.1.1
  have hl : lv_has ls 7 [(0, .ref (mo G)), (1, .int x1), (2, .int x2), (3, .int x3), (4, .int x4)] := hl
  refine lv_iload_n hx hb dX4_times_0 rfl (lv_at hl 1 rfl) ?_
  refine lv_iconst (v := 1) hx hb dX4_times_1 (by decide) ?_
  refine lv_bipush (v := 20) hx hb dX4_times_2 (by decide) ?_
  refine s_call (As := [.int x1, .int (1 : Int32), .int (20 : Int32)]) (rest := []) S.1.1 (met_X4_in rfl) wi_X4_in q2681 ⟨rfl, rfl⟩ ⟨Nat.le_of_ble_eq_true rfl, Nat.le_of_ble_eq_true rfl⟩ rfl hl.1 rfl (Nat.le_of_ble_eq_true rfl) dX4_times_4 ⟨Nat.zero_le _, Nat.zero_le _⟩ ?_
  refine lv_if_eq (tgt := 41) hx hb dX4_times_7 (by decide) (fun c_7 => ?_) (fun c_7 => ?_)
  · replace hf := o_t hf c_7
    refine lv_bipush (v := -2) hx hb dX4_times_41 (by decide) ?_
    obtain rfl := Option.some.inj hf
    exact m_iret S hR hS rfl dX4_times_43
  · replace hf := o_f hf c_7
    refine lv_iload_n hx hb dX4_times_10 rfl (lv_at hl 2 rfl) ?_
    refine lv_iconst (v := 0) hx hb dX4_times_11 (by decide) ?_
    refine lv_bipush (v := 12) hx hb dX4_times_12 (by decide) ?_
    refine s_call (As := [.int x2, .int (0 : Int32), .int (12 : Int32)]) (rest := []) S.1.1 (met_X4_in rfl) wi_X4_in q2681 ⟨rfl, rfl⟩ ⟨Nat.le_of_ble_eq_true rfl, Nat.le_of_ble_eq_true rfl⟩ rfl hl.1 rfl (Nat.le_of_ble_eq_true rfl) dX4_times_14 ⟨Nat.zero_le _, Nat.zero_le _⟩ ?_
    refine lv_if_eq (tgt := 41) hx hb dX4_times_17 (by decide) (fun c_17 => ?_) (fun c_17 => ?_)
    · replace hf := o_t hf c_17
      refine lv_bipush (v := -2) hx hb dX4_times_41 (by decide) ?_
      obtain rfl := Option.some.inj hf
      exact m_iret S hR hS rfl dX4_times_43
    · replace hf := o_f hf c_17
      refine lv_iload_n hx hb dX4_times_20 rfl (lv_at hl 3 rfl) ?_
      refine lv_iconst (v := 0) hx hb dX4_times_21 (by decide) ?_
      refine lv_bipush (v := 10) hx hb dX4_times_22 (by decide) ?_
      refine s_call (As := [.int x3, .int (0 : Int32), .int (10 : Int32)]) (rest := []) S.1.1 (met_X4_in rfl) wi_X4_in q2681 ⟨rfl, rfl⟩ ⟨Nat.le_of_ble_eq_true rfl, Nat.le_of_ble_eq_true rfl⟩ rfl hl.1 rfl (Nat.le_of_ble_eq_true rfl) dX4_times_24 ⟨Nat.zero_le _, Nat.zero_le _⟩ ?_
      refine lv_if_eq (tgt := 41) hx hb dX4_times_27 (by decide) (fun c_27 => ?_) (fun c_27 => ?_)
      · replace hf := o_t hf c_27
        refine lv_bipush (v := -2) hx hb dX4_times_41 (by decide) ?_
        obtain rfl := Option.some.inj hf
        exact m_iret S hR hS rfl dX4_times_43
      · replace hf := o_f hf c_27
        refine lv_iload hx hb dX4_times_30 (lv_at hl 4 rfl) ?_
        refine lv_iconst (v := 0) hx hb dX4_times_32 (by decide) ?_
        refine lv_bipush (v := 12) hx hb dX4_times_33 (by decide) ?_
        refine s_call (As := [.int x4, .int (0 : Int32), .int (12 : Int32)]) (rest := []) S.1.1 (met_X4_in rfl) wi_X4_in q2681 ⟨rfl, rfl⟩ ⟨Nat.le_of_ble_eq_true rfl, Nat.le_of_ble_eq_true rfl⟩ rfl hl.1 rfl (Nat.le_of_ble_eq_true rfl) dX4_times_35 ⟨Nat.zero_le _, Nat.zero_le _⟩ ?_
        refine lv_if_ne (tgt := 44) hx hb dX4_times_38 (by decide) (fun c_38 => ?_) (fun c_38 => ?_)
        · replace hf := o_f hf c_38
          refine lv_aload_n hx hb dX4_times_44 rfl (lv_at hl 0 rfl) ?_
          refine lv_aload_n hx hb dX4_times_45 rfl (lv_at hl 0 rfl) ?_
          refine m_geta (k := 40) S hR (by decide) (by decide) q2566 dX4_times_46 ?_
          refine k_bind hf (fun e1 he1 hf => ?_)
          refine m_call (As := [.ref (mad G 40)]) (rest := []) S hR hS (met_X4_keeps he1) wi_X4_keeps rfl q3046 ⟨rfl, rfl⟩ ⟨Nat.le_of_ble_eq_true rfl, Nat.le_of_ble_eq_true rfl⟩ rfl hl.1 rfl (Nat.le_of_ble_eq_true rfl) dX4_times_49 (fun H locs hR hS => ?_)
          refine lv_iconst (v := 0) hx hb dX4_times_52 (by decide) ?_
          refine lv_istore (lv' := [(5, .int (0 : Int32)), (0, .ref (mo G)), (1, .int x1), (2, .int x2), (3, .int x3), (4, .int x4)]) hx hb dX4_times_53 hl (by decide) rfl (fun ls hl => ?_)
          refine lv_iconst (v := 0) hx hb dX4_times_55 (by decide) ?_
          refine lv_istore (lv' := [(6, .int (0 : Int32)), (5, .int (0 : Int32)), (0, .ref (mo G)), (1, .int x1), (2, .int x2), (3, .int x3), (4, .int x4)]) hx hb dX4_times_56 hl (by decide) rfl (fun ls hl => ?_)
          refine k_bind hf (fun b6 hb6 hf => ?_)
          refine wLX4_times_58 S hb6 ?_ _ _ _ hR hS (lv_sub (l' := [(0, .ref (mo G)), (1, .int x1), (2, .int x2), (3, .int x3), (4, .int x4), (5, .int (0 : Int32)), (6, .int (0 : Int32))]) hl [2, 3, 4, 5, 6, 1, 0] rfl)
          · intro b eb; subst eb; intro H locs ls hR hS hl
            refine lv_aload_n hx hb dX4_times_95 rfl (lv_at hl 0 rfl) ?_
            refine lv_aload_n hx hb dX4_times_96 rfl (lv_at hl 0 rfl) ?_
            refine m_geta (k := 40) S hR (by decide) (by decide) q2566 dX4_times_97 ?_
            refine k_bind hf (fun e7 he7 hf => ?_)
            refine m_call (As := [.ref (mad G 40)]) (rest := []) S hR hS (met_X4_putsBack he7) wi_X4_putsBack rfl q3050 ⟨rfl, rfl⟩ ⟨Nat.le_of_ble_eq_true rfl, Nat.le_of_ble_eq_true rfl⟩ rfl hl.1 rfl (Nat.le_of_ble_eq_true rfl) dX4_times_100 (fun H locs hR hS => ?_)
            refine lv_iload hx hb dX4_times_103 (lv_at hl 1 rfl) ?_
            obtain rfl := Option.some.inj hf
            exact m_iret S hR hS rfl dX4_times_105
        · replace hf := o_t hf c_38
          refine lv_bipush (v := -2) hx hb dX4_times_41 (by decide) ?_
          obtain rfl := Option.some.inj hf
          exact m_iret S hR hS rfl dX4_times_43
