/-! the reference, walked: persists nextTo isHeaded isCrown crowns degree rule rules -/
noncomputable def LX4_persists_41 (y2 : Int32) (y3 : Int32) (y4 : Int32) (σ : mS) (q : Int32 × Int32) : Option ((Int32 × Int32) ⊕ (Int32)) :=
  if (fX4_all σ) < q.2 then some (Sum.inr q.1) else (fX4_bits q.2).bind (fun v5 => if v5 = y4 then if (q.2 &&& y2) = (0 : Int32) then if (y3 &&& (q.2 ^^^ (-1 : Int32))) = (0 : Int32) then (fX4_covers q.2 σ).bind (fun v9 => if v9 = (0 : Int32) then (some (q.1 + (0 : Int32))).bind (fun v10 => some (Sum.inl (v10, q.2 + (1 : Int32)))) else (some (q.1 + (1 : Int32))).bind (fun v11 => some (Sum.inl (v11, q.2 + (1 : Int32))))) else (some (q.1 + (0 : Int32))).bind (fun v8 => some (Sum.inl (v8, q.2 + (1 : Int32)))) else (some (q.1 + (0 : Int32))).bind (fun v7 => some (Sum.inl (v7, q.2 + (1 : Int32)))) else (some (q.1 + (0 : Int32))).bind (fun v6 => some (Sum.inl (v6, q.2 + (1 : Int32)))))
noncomputable def fX4_persists (σ : mS) : Option (Int32 × mS) :=
  (fX4_laysHalves (fX4_all σ) σ).bind (fun e1 => (fX4_halvesWith (0 : Int32) (fX4_all e1.2) e1.2).bind (fun v2 => (fX4_halvesWith (2 : Int32) (fX4_all e1.2) e1.2).bind (fun v3 => (fX4_least e1.2).bind (fun v4 => (lpw (LX4_persists_41 v2 v3 v4 e1.2) ((0 : Int32), (0 : Int32))).bind (fun b12 => some (b12, e1.2))))))
theorem wi_X4_persists : wInfV yX4_persists cX4_persists 7 (Option.some Jvm.ClassFile.FieldType.int) 0 := ⟨q2838, q2839, q116, q2840, (by decide +kernel), (by decide +kernel), (by decide +kernel)⟩
set_option maxHeartbeats 4000000 in
set_option maxRecDepth 100000 in
theorem wbLX4_persists_41 {l : Launch} {G : mG} {p : Program} {e : Env} {s : State} {m : MethodId} {args : Array Value} {below : List Frame} {meth : Method} {c : Code} {Q : State → Prop} {y2 : Int32} {y3 : Int32} {y4 : Int32} {σ : mS} {q : Int32 × Int32} {res : (Int32 × Int32) ⊕ (Int32)} (S : mSt G p m c cX4_persists 7 s args meth (Option.some Jvm.ClassFile.FieldType.int)) (hf : LX4_persists_41 y2 y3 y4 σ q = some res) (hK : ∀ q, res = Sum.inl q → (∀ (H : Heap) (locs : List Loc) (ls : Array Slot), mR G σ H → va_S (mA G) s.heap H locs → lv_has ls 7 [(0, .ref (mo G)), (2, .int y2), (3, .int y3), (4, .int y4), (5, .int q.1), (6, .int q.2)] → W p l e (mRm 37 934) s m args below meth c H locs 0 0 Q (F0 m 41 ls []))) (hE101 : ∀ b, res = Sum.inr b → (∀ (H : Heap) (locs : List Loc) (ls : Array Slot), mR G σ H → va_S (mA G) s.heap H locs → lv_has ls 7 [(0, .ref (mo G)), (5, .int b)] → W p l e (mRm 37 934) s m args below meth c H locs 0 0 Q (F0 m 101 ls []))) : (∀ (H : Heap) (locs : List Loc) (ls : Array Slot), mR G σ H → va_S (mA G) s.heap H locs → lv_has ls 7 [(0, .ref (mo G)), (2, .int y2), (3, .int y3), (4, .int y4), (5, .int q.1), (6, .int q.2)] → W p l e (mRm 37 934) s m args below meth c H locs 0 0 Q (F0 m 41 ls [])) := by
  replace hf : (if (fX4_all σ) < q.2 then some (Sum.inr q.1) else (fX4_bits q.2).bind (fun v5 => if v5 = y4 then if (q.2 &&& y2) = (0 : Int32) then if (y3 &&& (q.2 ^^^ (-1 : Int32))) = (0 : Int32) then (fX4_covers q.2 σ).bind (fun v9 => if v9 = (0 : Int32) then (some (q.1 + (0 : Int32))).bind (fun v10 => some (Sum.inl (v10, q.2 + (1 : Int32)))) else (some (q.1 + (1 : Int32))).bind (fun v11 => some (Sum.inl (v11, q.2 + (1 : Int32))))) else (some (q.1 + (0 : Int32))).bind (fun v8 => some (Sum.inl (v8, q.2 + (1 : Int32)))) else (some (q.1 + (0 : Int32))).bind (fun v7 => some (Sum.inl (v7, q.2 + (1 : Int32)))) else (some (q.1 + (0 : Int32))).bind (fun v6 => some (Sum.inl (v6, q.2 + (1 : Int32)))))) = some res := hf
  obtain ⟨hx, hb, hml, hown, hts⟩ := S.1.1
  intro H locs ls hR hS hl
  refine lv_iload hx hb dX4_persists_41 (lv_at hl 5 rfl) ?_
  refine lv_aload_n hx hb dX4_persists_43 rfl (lv_at hl 0 rfl) ?_
  refine m_call (As := []) (rest := [.int q.2]) S hR hS (met_X4_all rfl) wi_X4_all rfl q2738 ⟨rfl, rfl⟩ ⟨Nat.le_of_ble_eq_true rfl, Nat.le_of_ble_eq_true rfl⟩ rfl hl.1 rfl (Nat.le_of_ble_eq_true rfl) dX4_persists_44 (fun H locs hR hS => ?_)
  refine lv_icmp_gt (tgt := 101) hx hb dX4_persists_47 (by decide) (fun c_47 => ?_) (fun c_47 => ?_)
  · replace hf := o_t hf c_47
    exact hE101 _ (Option.some.inj hf).symm _ _ _ hR hS (lv_sub (l' := [(0, .ref (mo G)), (5, .int q.1)]) hl [0, 4] rfl)
  · replace hf := o_f hf c_47
    refine lv_iload hx hb dX4_persists_50 (lv_at hl 4 rfl) ?_
    refine lv_iload hx hb dX4_persists_52 (lv_at hl 5 rfl) ?_
    refine k_bind hf (fun v5 hv5 hf => ?_)
    refine s_call (As := [.int q.2]) (rest := [.int q.1]) S.1.1 (met_X4_bits hv5) wi_X4_bits q2712 ⟨rfl, rfl⟩ ⟨Nat.le_of_ble_eq_true rfl, Nat.le_of_ble_eq_true rfl⟩ rfl hl.1 rfl (Nat.le_of_ble_eq_true rfl) dX4_persists_54 ⟨Nat.zero_le _, Nat.zero_le _⟩ ?_
    refine lv_iload hx hb dX4_persists_57 (lv_at hl 3 rfl) ?_
    refine lv_icmp_ne (tgt := 91) hx hb dX4_persists_59 (by decide) (fun c_59 => ?_) (fun c_59 => ?_)
    · replace hf := o_f hf c_59
      refine lv_iconst (v := 0) hx hb dX4_persists_91 (by decide) ?_
      refine lv_iadd hx hb dX4_persists_92 ?_
      refine k_bind hf (fun v6 hv6 hf => ?_)
      refine m_nmi hv6 ?_
      refine lv_istore (lv' := [(5, .int v6), (0, .ref (mo G)), (2, .int y2), (3, .int y3), (4, .int y4), (6, .int q.2)]) hx hb dX4_persists_93 hl (by decide) rfl (fun ls hl => ?_)
      refine lv_iinc (lv' := [(6, .int (q.2 + (1 : Int32))), (5, .int v6), (0, .ref (mo G)), (2, .int y2), (3, .int y3), (4, .int y4)]) hx hb dX4_persists_95 hl (k := 5) rfl (m_inc (by decide)) (by decide) rfl (fun ls hl => ?_)
      refine lv_goto (tgt := 41) hx hb dX4_persists_98 (by decide) ?_
      exact hK _ (Option.some.inj hf).symm _ _ _ hR hS (lv_sub (l' := [(0, .ref (mo G)), (2, .int y2), (3, .int y3), (4, .int y4), (5, .int v6), (6, .int (q.2 + (1 : Int32)))]) hl [2, 3, 4, 5, 1, 0] rfl)
    · replace hf := o_t hf c_59
      refine lv_iload hx hb dX4_persists_62 (lv_at hl 5 rfl) ?_
      refine lv_iload_n hx hb dX4_persists_64 rfl (lv_at hl 1 rfl) ?_
      refine lv_iand hx hb dX4_persists_65 ?_
      refine lv_if_ne (tgt := 91) hx hb dX4_persists_66 (by decide) (fun c_66 => ?_) (fun c_66 => ?_)
      · replace hf := o_f hf c_66
        refine lv_iconst (v := 0) hx hb dX4_persists_91 (by decide) ?_
        refine lv_iadd hx hb dX4_persists_92 ?_
        refine k_bind hf (fun v7 hv7 hf => ?_)
        refine m_nmi hv7 ?_
        refine lv_istore (lv' := [(5, .int v7), (0, .ref (mo G)), (2, .int y2), (3, .int y3), (4, .int y4), (6, .int q.2)]) hx hb dX4_persists_93 hl (by decide) rfl (fun ls hl => ?_)
        refine lv_iinc (lv' := [(6, .int (q.2 + (1 : Int32))), (5, .int v7), (0, .ref (mo G)), (2, .int y2), (3, .int y3), (4, .int y4)]) hx hb dX4_persists_95 hl (k := 5) rfl (m_inc (by decide)) (by decide) rfl (fun ls hl => ?_)
        refine lv_goto (tgt := 41) hx hb dX4_persists_98 (by decide) ?_
        exact hK _ (Option.some.inj hf).symm _ _ _ hR hS (lv_sub (l' := [(0, .ref (mo G)), (2, .int y2), (3, .int y3), (4, .int y4), (5, .int v7), (6, .int (q.2 + (1 : Int32)))]) hl [2, 3, 4, 5, 1, 0] rfl)
      · replace hf := o_t hf c_66
        refine lv_iload_n hx hb dX4_persists_69 rfl (lv_at hl 2 rfl) ?_
        refine lv_iload hx hb dX4_persists_70 (lv_at hl 5 rfl) ?_
        refine lv_iconst (v := -1) hx hb dX4_persists_72 (by decide) ?_
        refine lv_ixor hx hb dX4_persists_73 ?_
        refine lv_iand hx hb dX4_persists_74 ?_
        refine lv_if_ne (tgt := 91) hx hb dX4_persists_75 (by decide) (fun c_75 => ?_) (fun c_75 => ?_)
        · replace hf := o_f hf c_75
          refine lv_iconst (v := 0) hx hb dX4_persists_91 (by decide) ?_
          refine lv_iadd hx hb dX4_persists_92 ?_
          refine k_bind hf (fun v8 hv8 hf => ?_)
          refine m_nmi hv8 ?_
          refine lv_istore (lv' := [(5, .int v8), (0, .ref (mo G)), (2, .int y2), (3, .int y3), (4, .int y4), (6, .int q.2)]) hx hb dX4_persists_93 hl (by decide) rfl (fun ls hl => ?_)
          refine lv_iinc (lv' := [(6, .int (q.2 + (1 : Int32))), (5, .int v8), (0, .ref (mo G)), (2, .int y2), (3, .int y3), (4, .int y4)]) hx hb dX4_persists_95 hl (k := 5) rfl (m_inc (by decide)) (by decide) rfl (fun ls hl => ?_)
          refine lv_goto (tgt := 41) hx hb dX4_persists_98 (by decide) ?_
          exact hK _ (Option.some.inj hf).symm _ _ _ hR hS (lv_sub (l' := [(0, .ref (mo G)), (2, .int y2), (3, .int y3), (4, .int y4), (5, .int v8), (6, .int (q.2 + (1 : Int32)))]) hl [2, 3, 4, 5, 1, 0] rfl)
        · replace hf := o_t hf c_75
          refine lv_aload_n hx hb dX4_persists_78 rfl (lv_at hl 0 rfl) ?_
          refine lv_iload hx hb dX4_persists_79 (lv_at hl 5 rfl) ?_
          refine k_bind hf (fun v9 hv9 hf => ?_)
          refine m_call (As := [.int q.2]) (rest := [.int q.1]) S hR hS (met_X4_covers hv9) wi_X4_covers rfl q2746 ⟨rfl, rfl⟩ ⟨Nat.le_of_ble_eq_true rfl, Nat.le_of_ble_eq_true rfl⟩ rfl hl.1 rfl (Nat.le_of_ble_eq_true rfl) dX4_persists_81 (fun H locs hR hS => ?_)
          refine lv_if_eq (tgt := 91) hx hb dX4_persists_84 (by decide) (fun c_84 => ?_) (fun c_84 => ?_)
          · replace hf := o_t hf c_84
            refine lv_iconst (v := 0) hx hb dX4_persists_91 (by decide) ?_
            refine lv_iadd hx hb dX4_persists_92 ?_
            refine k_bind hf (fun v10 hv10 hf => ?_)
            refine m_nmi hv10 ?_
            refine lv_istore (lv' := [(5, .int v10), (0, .ref (mo G)), (2, .int y2), (3, .int y3), (4, .int y4), (6, .int q.2)]) hx hb dX4_persists_93 hl (by decide) rfl (fun ls hl => ?_)
            refine lv_iinc (lv' := [(6, .int (q.2 + (1 : Int32))), (5, .int v10), (0, .ref (mo G)), (2, .int y2), (3, .int y3), (4, .int y4)]) hx hb dX4_persists_95 hl (k := 5) rfl (m_inc (by decide)) (by decide) rfl (fun ls hl => ?_)
            refine lv_goto (tgt := 41) hx hb dX4_persists_98 (by decide) ?_
            exact hK _ (Option.some.inj hf).symm _ _ _ hR hS (lv_sub (l' := [(0, .ref (mo G)), (2, .int y2), (3, .int y3), (4, .int y4), (5, .int v10), (6, .int (q.2 + (1 : Int32)))]) hl [2, 3, 4, 5, 1, 0] rfl)
          · replace hf := o_f hf c_84
            refine lv_iconst (v := 1) hx hb dX4_persists_87 (by decide) ?_
            refine lv_goto (tgt := 92) hx hb dX4_persists_88 (by decide) ?_
            refine lv_iadd hx hb dX4_persists_92 ?_
            refine k_bind hf (fun v11 hv11 hf => ?_)
            refine m_nmi hv11 ?_
            refine lv_istore (lv' := [(5, .int v11), (0, .ref (mo G)), (2, .int y2), (3, .int y3), (4, .int y4), (6, .int q.2)]) hx hb dX4_persists_93 hl (by decide) rfl (fun ls hl => ?_)
            refine lv_iinc (lv' := [(6, .int (q.2 + (1 : Int32))), (5, .int v11), (0, .ref (mo G)), (2, .int y2), (3, .int y3), (4, .int y4)]) hx hb dX4_persists_95 hl (k := 5) rfl (m_inc (by decide)) (by decide) rfl (fun ls hl => ?_)
            refine lv_goto (tgt := 41) hx hb dX4_persists_98 (by decide) ?_
            exact hK _ (Option.some.inj hf).symm _ _ _ hR hS (lv_sub (l' := [(0, .ref (mo G)), (2, .int y2), (3, .int y3), (4, .int y4), (5, .int v11), (6, .int (q.2 + (1 : Int32)))]) hl [2, 3, 4, 5, 1, 0] rfl)
set_option maxHeartbeats 4000000 in
set_option maxRecDepth 100000 in
theorem wLX4_persists_41 {l : Launch} {G : mG} {p : Program} {e : Env} {s : State} {m : MethodId} {args : Array Value} {below : List Frame} {meth : Method} {c : Code} {Q : State → Prop} {y2 : Int32} {y3 : Int32} {y4 : Int32} {σ : mS} {q : Int32 × Int32} {res : Int32} (S : mSt G p m c cX4_persists 7 s args meth (Option.some Jvm.ClassFile.FieldType.int)) (h : lpw (LX4_persists_41 y2 y3 y4 σ) q = some res) (hE101 : ∀ b, res = b → (∀ (H : Heap) (locs : List Loc) (ls : Array Slot), mR G σ H → va_S (mA G) s.heap H locs → lv_has ls 7 [(0, .ref (mo G)), (5, .int b)] → W p l e (mRm 37 934) s m args below meth c H locs 0 0 Q (F0 m 101 ls []))) : (∀ (H : Heap) (locs : List Loc) (ls : Array Slot), mR G σ H → va_S (mA G) s.heap H locs → lv_has ls 7 [(0, .ref (mo G)), (2, .int y2), (3, .int y3), (4, .int y4), (5, .int q.1), (6, .int q.2)] → W p l e (mRm 37 934) s m args below meth c H locs 0 0 Q (F0 m 41 ls [])) :=
  lpw_go _ (fun q => (∀ (H : Heap) (locs : List Loc) (ls : Array Slot), mR G σ H → va_S (mA G) s.heap H locs → lv_has ls 7 [(0, .ref (mo G)), (2, .int y2), (3, .int y3), (4, .int y4), (5, .int q.1), (6, .int q.2)] → W p l e (mRm 37 934) s m args below meth c H locs 0 0 Q (F0 m 41 ls []))) (fun b0 => (∀ b, b0 = b → (∀ (H : Heap) (locs : List Loc) (ls : Array Slot), mR G σ H → va_S (mA G) s.heap H locs → lv_has ls 7 [(0, .ref (mo G)), (5, .int b)] → W p l e (mRm 37 934) s m args below meth c H locs 0 0 Q (F0 m 101 ls [])))) (fun q x hf hK hX => wbLX4_persists_41 S hf hK (fun b eb => (hX _ eb) b rfl)) q res h hE101
set_option maxHeartbeats 4000000 in
set_option maxRecDepth 100000 in
theorem met_X4_persists {l : Launch} {G : mG} {σ : mS} {res : Int32 × mS} (hf : fX4_persists σ = some res) : mMet l yX4_persists cX4_persists 7 (Option.some Jvm.ClassFile.FieldType.int) (mRm 37 934) G [.ref (mo G)] σ (some (.int res.1)) res.2 := by
  replace hf : ((fX4_laysHalves (fX4_all σ) σ).bind (fun e1 => (fX4_halvesWith (0 : Int32) (fX4_all e1.2) e1.2).bind (fun v2 => (fX4_halvesWith (2 : Int32) (fX4_all e1.2) e1.2).bind (fun v3 => (fX4_least e1.2).bind (fun v4 => (lpw (LX4_persists_41 v2 v3 v4 e1.2) ((0 : Int32), (0 : Int32))).bind (fun b12 => some (b12, e1.2))))))) = some res := hf
  refine m_start (by decide) rfl (Nat.le_of_ble_eq_true rfl) ?_
  intro p e s m args below meth c S hR hS ls hl
  obtain ⟨hx, hb, hml, hown, hts⟩ := S.1.1
  have hl : lv_has ls 7 [(0, .ref (mo G))] := hl
  refine lv_aload_n hx hb dX4_persists_0 rfl (lv_at hl 0 rfl) ?_
  refine lv_aload_n hx hb dX4_persists_1 rfl (lv_at hl 0 rfl) ?_
  refine m_call (As := []) (rest := [.ref (mo G)]) S hR hS (met_X4_all rfl) wi_X4_all rfl q2738 ⟨rfl, rfl⟩ ⟨Nat.le_of_ble_eq_true rfl, Nat.le_of_ble_eq_true rfl⟩ rfl hl.1 rfl (Nat.le_of_ble_eq_true rfl) dX4_persists_2 (fun H locs hR hS => ?_)
  refine k_bind hf (fun e1 he1 hf => ?_)
  refine m_call (As := [.int (fX4_all σ)]) (rest := []) S hR hS (met_X4_laysHalves he1) wi_X4_laysHalves rfl q2794 ⟨rfl, rfl⟩ ⟨Nat.le_of_ble_eq_true rfl, Nat.le_of_ble_eq_true rfl⟩ rfl hl.1 rfl (Nat.le_of_ble_eq_true rfl) dX4_persists_5 (fun H locs hR hS => ?_)
  refine lv_istore_n (lv' := [(1, .int e1.1), (0, .ref (mo G))]) hx hb dX4_persists_8 rfl hl (by decide) rfl (fun ls hl => ?_)
  refine lv_aload_n hx hb dX4_persists_9 rfl (lv_at hl 1 rfl) ?_
  refine lv_iconst (v := 0) hx hb dX4_persists_10 (by decide) ?_
  refine lv_aload_n hx hb dX4_persists_11 rfl (lv_at hl 1 rfl) ?_
  refine m_call (As := []) (rest := [.int (0 : Int32), .ref (mo G)]) S hR hS (met_X4_all rfl) wi_X4_all rfl q2738 ⟨rfl, rfl⟩ ⟨Nat.le_of_ble_eq_true rfl, Nat.le_of_ble_eq_true rfl⟩ rfl hl.1 rfl (Nat.le_of_ble_eq_true rfl) dX4_persists_12 (fun H locs hR hS => ?_)
  refine k_bind hf (fun v2 hv2 hf => ?_)
  refine m_call (As := [.int (0 : Int32), .int (fX4_all e1.2)]) (rest := []) S hR hS (met_X4_halvesWith hv2) wi_X4_halvesWith rfl q2814 ⟨rfl, rfl⟩ ⟨Nat.le_of_ble_eq_true rfl, Nat.le_of_ble_eq_true rfl⟩ rfl hl.1 rfl (Nat.le_of_ble_eq_true rfl) dX4_persists_15 (fun H locs hR hS => ?_)
  refine lv_istore_n (lv' := [(2, .int v2), (1, .int e1.1), (0, .ref (mo G))]) hx hb dX4_persists_18 rfl hl (by decide) rfl (fun ls hl => ?_)
  refine lv_aload_n hx hb dX4_persists_19 rfl (lv_at hl 2 rfl) ?_
  refine lv_iconst (v := 2) hx hb dX4_persists_20 (by decide) ?_
  refine lv_aload_n hx hb dX4_persists_21 rfl (lv_at hl 2 rfl) ?_
  refine m_call (As := []) (rest := [.int (2 : Int32), .ref (mo G)]) S hR hS (met_X4_all rfl) wi_X4_all rfl q2738 ⟨rfl, rfl⟩ ⟨Nat.le_of_ble_eq_true rfl, Nat.le_of_ble_eq_true rfl⟩ rfl hl.1 rfl (Nat.le_of_ble_eq_true rfl) dX4_persists_22 (fun H locs hR hS => ?_)
  refine k_bind hf (fun v3 hv3 hf => ?_)
  refine m_call (As := [.int (2 : Int32), .int (fX4_all e1.2)]) (rest := []) S hR hS (met_X4_halvesWith hv3) wi_X4_halvesWith rfl q2814 ⟨rfl, rfl⟩ ⟨Nat.le_of_ble_eq_true rfl, Nat.le_of_ble_eq_true rfl⟩ rfl hl.1 rfl (Nat.le_of_ble_eq_true rfl) dX4_persists_25 (fun H locs hR hS => ?_)
  refine lv_istore_n (lv' := [(3, .int v3), (2, .int v2), (1, .int e1.1), (0, .ref (mo G))]) hx hb dX4_persists_28 rfl hl (by decide) rfl (fun ls hl => ?_)
  refine lv_aload_n hx hb dX4_persists_29 rfl (lv_at hl 3 rfl) ?_
  refine k_bind hf (fun v4 hv4 hf => ?_)
  refine m_call (As := []) (rest := []) S hR hS (met_X4_least hv4) wi_X4_least rfl q2765 ⟨rfl, rfl⟩ ⟨Nat.le_of_ble_eq_true rfl, Nat.le_of_ble_eq_true rfl⟩ rfl hl.1 rfl (Nat.le_of_ble_eq_true rfl) dX4_persists_30 (fun H locs hR hS => ?_)
  refine lv_istore (lv' := [(4, .int v4), (3, .int v3), (2, .int v2), (1, .int e1.1), (0, .ref (mo G))]) hx hb dX4_persists_33 hl (by decide) rfl (fun ls hl => ?_)
  refine lv_iconst (v := 0) hx hb dX4_persists_35 (by decide) ?_
  refine lv_istore (lv' := [(5, .int (0 : Int32)), (4, .int v4), (3, .int v3), (2, .int v2), (1, .int e1.1), (0, .ref (mo G))]) hx hb dX4_persists_36 hl (by decide) rfl (fun ls hl => ?_)
  refine lv_iconst (v := 0) hx hb dX4_persists_38 (by decide) ?_
  refine lv_istore (lv' := [(6, .int (0 : Int32)), (5, .int (0 : Int32)), (4, .int v4), (3, .int v3), (2, .int v2), (1, .int e1.1), (0, .ref (mo G))]) hx hb dX4_persists_39 hl (by decide) rfl (fun ls hl => ?_)
  refine k_bind hf (fun b12 hb12 hf => ?_)
  refine wLX4_persists_41 S hb12 ?_ _ _ _ hR hS (lv_sub (l' := [(0, .ref (mo G)), (2, .int v2), (3, .int v3), (4, .int v4), (5, .int (0 : Int32)), (6, .int (0 : Int32))]) hl [6, 4, 3, 2, 1, 0] rfl)
  · intro b eb; subst eb; intro H locs ls hR hS hl
    refine lv_iload hx hb dX4_persists_101 (lv_at hl 1 rfl) ?_
    obtain rfl := Option.some.inj hf
    exact m_iret S hR hS rfl dX4_persists_103

noncomputable def LX4_nextTo_4 (y1 : Int32) (σ : mS) (q : Int32 × Int32) : Option ((Int32 × Int32) ⊕ (Int32)) :=
  if (σ.1 0) ≤ q.2 then some (Sum.inr q.1) else if (fX4_has y1 q.2) = (0 : Int32) then (some (q.1 ||| (0 : Int32))).bind (fun v1 => some (Sum.inl (v1, q.2 + (1 : Int32)))) else (mald σ 4 q.2).bind (fun v2 => (some (q.1 ||| v2)).bind (fun v3 => some (Sum.inl (v3, q.2 + (1 : Int32)))))
noncomputable def fX4_nextTo (x1 : Int32) (σ : mS) : Option Int32 :=
  (lpw (LX4_nextTo_4 x1 σ) ((0 : Int32), (0 : Int32))).bind (fun b4 => some b4)
theorem wi_X4_nextTo : wInfV yX4_nextTo cX4_nextTo 4 (Option.some Jvm.ClassFile.FieldType.int) 1 := ⟨q2847, qs76, q116, q2848, (by decide +kernel), (by decide +kernel), (by decide +kernel)⟩
set_option maxHeartbeats 4000000 in
set_option maxRecDepth 100000 in
theorem wbLX4_nextTo_4 {l : Launch} {G : mG} {p : Program} {e : Env} {s : State} {m : MethodId} {args : Array Value} {below : List Frame} {meth : Method} {c : Code} {Q : State → Prop} {y1 : Int32} {σ : mS} {q : Int32 × Int32} {res : (Int32 × Int32) ⊕ (Int32)} (S : mSt G p m c cX4_nextTo 4 s args meth (Option.some Jvm.ClassFile.FieldType.int)) (hf : LX4_nextTo_4 y1 σ q = some res) (hK : ∀ q, res = Sum.inl q → (∀ (H : Heap) (locs : List Loc) (ls : Array Slot), mR G σ H → va_S (mA G) s.heap H locs → lv_has ls 4 [(0, .ref (mo G)), (1, .int y1), (2, .int q.1), (3, .int q.2)] → W p l e (mRm 1 21) s m args below meth c H locs 0 0 Q (F0 m 4 ls []))) (hE39 : ∀ b, res = Sum.inr b → (∀ (H : Heap) (locs : List Loc) (ls : Array Slot), mR G σ H → va_S (mA G) s.heap H locs → lv_has ls 4 [(0, .ref (mo G)), (2, .int b)] → W p l e (mRm 1 21) s m args below meth c H locs 0 0 Q (F0 m 39 ls []))) : (∀ (H : Heap) (locs : List Loc) (ls : Array Slot), mR G σ H → va_S (mA G) s.heap H locs → lv_has ls 4 [(0, .ref (mo G)), (1, .int y1), (2, .int q.1), (3, .int q.2)] → W p l e (mRm 1 21) s m args below meth c H locs 0 0 Q (F0 m 4 ls [])) := by
  replace hf : (if (σ.1 0) ≤ q.2 then some (Sum.inr q.1) else if (fX4_has y1 q.2) = (0 : Int32) then (some (q.1 ||| (0 : Int32))).bind (fun v1 => some (Sum.inl (v1, q.2 + (1 : Int32)))) else (mald σ 4 q.2).bind (fun v2 => (some (q.1 ||| v2)).bind (fun v3 => some (Sum.inl (v3, q.2 + (1 : Int32)))))) = some res := hf
  obtain ⟨hx, hb, hml, hown, hts⟩ := S.1.1
  intro H locs ls hR hS hl
  refine lv_iload_n hx hb dX4_nextTo_4 rfl (lv_at hl 3 rfl) ?_
  refine lv_aload_n hx hb dX4_nextTo_5 rfl (lv_at hl 0 rfl) ?_
  refine m_geti (k := 0) S hR (by decide) (by decide) q2526 dX4_nextTo_6 ?_
  refine lv_icmp_ge (tgt := 39) hx hb dX4_nextTo_9 (by decide) (fun c_9 => ?_) (fun c_9 => ?_)
  · replace hf := o_t hf c_9
    exact hE39 _ (Option.some.inj hf).symm _ _ _ hR hS (lv_sub (l' := [(0, .ref (mo G)), (2, .int q.1)]) hl [0, 2] rfl)
  · replace hf := o_f hf c_9
    refine lv_iload_n hx hb dX4_nextTo_12 rfl (lv_at hl 2 rfl) ?_
    refine lv_iload_n hx hb dX4_nextTo_13 rfl (lv_at hl 1 rfl) ?_
    refine lv_iload_n hx hb dX4_nextTo_14 rfl (lv_at hl 3 rfl) ?_
    refine s_call (As := [.int y1, .int q.2]) (rest := [.int q.1]) S.1.1 (met_X4_has rfl) wi_X4_has q2750 ⟨rfl, rfl⟩ ⟨Nat.le_of_ble_eq_true rfl, Nat.le_of_ble_eq_true rfl⟩ rfl hl.1 rfl (Nat.le_of_ble_eq_true rfl) dX4_nextTo_15 ⟨Nat.zero_le _, Nat.zero_le _⟩ ?_
    refine lv_if_eq (tgt := 30) hx hb dX4_nextTo_18 (by decide) (fun c_18 => ?_) (fun c_18 => ?_)
    · replace hf := o_t hf c_18
      refine lv_iconst (v := 0) hx hb dX4_nextTo_30 (by decide) ?_
      refine lv_ior hx hb dX4_nextTo_31 ?_
      refine k_bind hf (fun v1 hv1 hf => ?_)
      refine m_nmi hv1 ?_
      refine lv_istore_n (lv' := [(2, .int v1), (0, .ref (mo G)), (1, .int y1), (3, .int q.2)]) hx hb dX4_nextTo_32 rfl hl (by decide) rfl (fun ls hl => ?_)
      refine lv_iinc (lv' := [(3, .int (q.2 + (1 : Int32))), (2, .int v1), (0, .ref (mo G)), (1, .int y1)]) hx hb dX4_nextTo_33 hl (k := 3) rfl (m_inc (by decide)) (by decide) rfl (fun ls hl => ?_)
      refine lv_goto (tgt := 4) hx hb dX4_nextTo_36 (by decide) ?_
      exact hK _ (Option.some.inj hf).symm _ _ _ hR hS (lv_sub (l' := [(0, .ref (mo G)), (1, .int y1), (2, .int v1), (3, .int (q.2 + (1 : Int32)))]) hl [2, 3, 1, 0] rfl)
    · replace hf := o_f hf c_18
      refine lv_aload_n hx hb dX4_nextTo_21 rfl (lv_at hl 0 rfl) ?_
      refine m_geta (k := 4) S hR (by decide) (by decide) q2530 dX4_nextTo_22 ?_
      refine lv_iload_n hx hb dX4_nextTo_25 rfl (lv_at hl 3 rfl) ?_
      refine k_bind hf (fun v2 hv2 hf => ?_)
      refine m_iald S hR hv2 dX4_nextTo_26 ?_
      refine lv_goto (tgt := 31) hx hb dX4_nextTo_27 (by decide) ?_
      refine lv_ior hx hb dX4_nextTo_31 ?_
      refine k_bind hf (fun v3 hv3 hf => ?_)
      refine m_nmi hv3 ?_
      refine lv_istore_n (lv' := [(2, .int v3), (0, .ref (mo G)), (1, .int y1), (3, .int q.2)]) hx hb dX4_nextTo_32 rfl hl (by decide) rfl (fun ls hl => ?_)
      refine lv_iinc (lv' := [(3, .int (q.2 + (1 : Int32))), (2, .int v3), (0, .ref (mo G)), (1, .int y1)]) hx hb dX4_nextTo_33 hl (k := 3) rfl (m_inc (by decide)) (by decide) rfl (fun ls hl => ?_)
      refine lv_goto (tgt := 4) hx hb dX4_nextTo_36 (by decide) ?_
      exact hK _ (Option.some.inj hf).symm _ _ _ hR hS (lv_sub (l' := [(0, .ref (mo G)), (1, .int y1), (2, .int v3), (3, .int (q.2 + (1 : Int32)))]) hl [2, 3, 1, 0] rfl)
set_option maxHeartbeats 4000000 in
set_option maxRecDepth 100000 in
theorem wLX4_nextTo_4 {l : Launch} {G : mG} {p : Program} {e : Env} {s : State} {m : MethodId} {args : Array Value} {below : List Frame} {meth : Method} {c : Code} {Q : State → Prop} {y1 : Int32} {σ : mS} {q : Int32 × Int32} {res : Int32} (S : mSt G p m c cX4_nextTo 4 s args meth (Option.some Jvm.ClassFile.FieldType.int)) (h : lpw (LX4_nextTo_4 y1 σ) q = some res) (hE39 : ∀ b, res = b → (∀ (H : Heap) (locs : List Loc) (ls : Array Slot), mR G σ H → va_S (mA G) s.heap H locs → lv_has ls 4 [(0, .ref (mo G)), (2, .int b)] → W p l e (mRm 1 21) s m args below meth c H locs 0 0 Q (F0 m 39 ls []))) : (∀ (H : Heap) (locs : List Loc) (ls : Array Slot), mR G σ H → va_S (mA G) s.heap H locs → lv_has ls 4 [(0, .ref (mo G)), (1, .int y1), (2, .int q.1), (3, .int q.2)] → W p l e (mRm 1 21) s m args below meth c H locs 0 0 Q (F0 m 4 ls [])) :=
  lpw_go _ (fun q => (∀ (H : Heap) (locs : List Loc) (ls : Array Slot), mR G σ H → va_S (mA G) s.heap H locs → lv_has ls 4 [(0, .ref (mo G)), (1, .int y1), (2, .int q.1), (3, .int q.2)] → W p l e (mRm 1 21) s m args below meth c H locs 0 0 Q (F0 m 4 ls []))) (fun b0 => (∀ b, b0 = b → (∀ (H : Heap) (locs : List Loc) (ls : Array Slot), mR G σ H → va_S (mA G) s.heap H locs → lv_has ls 4 [(0, .ref (mo G)), (2, .int b)] → W p l e (mRm 1 21) s m args below meth c H locs 0 0 Q (F0 m 39 ls [])))) (fun q x hf hK hX => wbLX4_nextTo_4 S hf hK (fun b eb => (hX _ eb) b rfl)) q res h hE39
set_option maxHeartbeats 4000000 in
set_option maxRecDepth 100000 in
theorem met_X4_nextTo {l : Launch} {G : mG} {x1 : Int32} {σ : mS} {res : Int32} (hf : fX4_nextTo x1 σ = some res) : mMet l yX4_nextTo cX4_nextTo 4 (Option.some Jvm.ClassFile.FieldType.int) (mRm 1 21) G [.ref (mo G), .int x1] σ (some (.int res)) σ := by
  replace hf : ((lpw (LX4_nextTo_4 x1 σ) ((0 : Int32), (0 : Int32))).bind (fun b4 => some b4)) = some res := hf
  refine m_start (by decide) rfl (Nat.le_of_ble_eq_true rfl) ?_
  intro p e s m args below meth c S hR hS ls hl
  obtain ⟨hx, hb, hml, hown, hts⟩ := S.1.1
  have hl : lv_has ls 4 [(0, .ref (mo G)), (1, .int x1)] := hl
  refine lv_iconst (v := 0) hx hb dX4_nextTo_0 (by decide) ?_
  refine lv_istore_n (lv' := [(2, .int (0 : Int32)), (0, .ref (mo G)), (1, .int x1)]) hx hb dX4_nextTo_1 rfl hl (by decide) rfl (fun ls hl => ?_)
  refine lv_iconst (v := 0) hx hb dX4_nextTo_2 (by decide) ?_
  refine lv_istore_n (lv' := [(3, .int (0 : Int32)), (2, .int (0 : Int32)), (0, .ref (mo G)), (1, .int x1)]) hx hb dX4_nextTo_3 rfl hl (by decide) rfl (fun ls hl => ?_)
  refine k_bind hf (fun b4 hb4 hf => ?_)
  refine wLX4_nextTo_4 S hb4 ?_ _ _ _ hR hS (lv_sub (l' := [(0, .ref (mo G)), (1, .int x1), (2, .int (0 : Int32)), (3, .int (0 : Int32))]) hl [2, 3, 1, 0] rfl)
  · intro b eb; subst eb; intro H locs ls hR hS hl
    refine lv_iload_n hx hb dX4_nextTo_39 rfl (lv_at hl 1 rfl) ?_
    obtain rfl := Option.some.inj hf
    exact m_iret S hR hS rfl dX4_nextTo_40

noncomputable def fX4_isHeaded (x1 : Int32) (x2 : Int32) (σ : mS) : Option (Int32 × mS) :=
  if x1 = (0 : Int32) then some ((0 : Int32), σ) else if (x1 &&& x2) = (0 : Int32) then (fX4_pairsAll 16 x2 x1 σ).bind (fun e1 => if e1.1 = (0 : Int32) then some ((0 : Int32), e1.2) else some ((1 : Int32), e1.2)) else some ((0 : Int32), σ)
theorem wi_X4_isHeaded : wInfV yX4_isHeaded cX4_isHeaded 3 (Option.some Jvm.ClassFile.FieldType.boolean) 2 := ⟨q2851, qs77, q116, q2852, (by decide +kernel), (by decide +kernel), (by decide +kernel)⟩
set_option maxHeartbeats 4000000 in
set_option maxRecDepth 100000 in
theorem met_X4_isHeaded {l : Launch} {G : mG} {x1 : Int32} {x2 : Int32} {σ : mS} {res : Int32 × mS} (hf : fX4_isHeaded x1 x2 σ = some res) : mMet l yX4_isHeaded cX4_isHeaded 3 (Option.some Jvm.ClassFile.FieldType.boolean) (mRm 19 450) G [.ref (mo G), .int x1, .int x2] σ (some (.int res.1)) res.2 := by
  replace hf : (if x1 = (0 : Int32) then some ((0 : Int32), σ) else if (x1 &&& x2) = (0 : Int32) then (fX4_pairsAll 16 x2 x1 σ).bind (fun e1 => if e1.1 = (0 : Int32) then some ((0 : Int32), e1.2) else some ((1 : Int32), e1.2)) else some ((0 : Int32), σ)) = some res := hf
  refine m_start (by decide) rfl (Nat.le_of_ble_eq_true rfl) ?_
  intro p e s m args below meth c S hR hS ls hl
  obtain ⟨hx, hb, hml, hown, hts⟩ := S.1.1
  have hl : lv_has ls 3 [(0, .ref (mo G)), (1, .int x1), (2, .int x2)] := hl
  refine lv_iload_n hx hb dX4_isHeaded_0 rfl (lv_at hl 1 rfl) ?_
  refine lv_if_eq (tgt := 23) hx hb dX4_isHeaded_1 (by decide) (fun c_1 => ?_) (fun c_1 => ?_)
  · replace hf := o_t hf c_1
    refine lv_iconst (v := 0) hx hb dX4_isHeaded_23 (by decide) ?_
    obtain rfl := Option.some.inj hf
    exact m_iret S hR hS rfl dX4_isHeaded_24
  · replace hf := o_f hf c_1
    refine lv_iload_n hx hb dX4_isHeaded_4 rfl (lv_at hl 1 rfl) ?_
    refine lv_iload_n hx hb dX4_isHeaded_5 rfl (lv_at hl 2 rfl) ?_
    refine lv_iand hx hb dX4_isHeaded_6 ?_
    refine lv_if_ne (tgt := 23) hx hb dX4_isHeaded_7 (by decide) (fun c_7 => ?_) (fun c_7 => ?_)
    · replace hf := o_f hf c_7
      refine lv_iconst (v := 0) hx hb dX4_isHeaded_23 (by decide) ?_
      obtain rfl := Option.some.inj hf
      exact m_iret S hR hS rfl dX4_isHeaded_24
    · replace hf := o_t hf c_7
      refine lv_aload_n hx hb dX4_isHeaded_10 rfl (lv_at hl 0 rfl) ?_
      refine lv_iload_n hx hb dX4_isHeaded_11 rfl (lv_at hl 2 rfl) ?_
      refine lv_iload_n hx hb dX4_isHeaded_12 rfl (lv_at hl 1 rfl) ?_
      refine k_bind hf (fun e1 he1 hf => ?_)
      refine m_call (As := [.int x2, .int x1]) (rest := []) S hR hS (met_X4_pairsAll he1) wi_X4_pairsAll rfl q2830 ⟨rfl, rfl⟩ ⟨Nat.le_of_ble_eq_true rfl, Nat.le_of_ble_eq_true rfl⟩ rfl hl.1 rfl (Nat.le_of_ble_eq_true rfl) dX4_isHeaded_13 (fun H locs hR hS => ?_)
      refine lv_if_eq (tgt := 23) hx hb dX4_isHeaded_16 (by decide) (fun c_16 => ?_) (fun c_16 => ?_)
      · replace hf := o_t hf c_16
        refine lv_iconst (v := 0) hx hb dX4_isHeaded_23 (by decide) ?_
        obtain rfl := Option.some.inj hf
        exact m_iret S hR hS rfl dX4_isHeaded_24
      · replace hf := o_f hf c_16
        refine lv_iconst (v := 1) hx hb dX4_isHeaded_19 (by decide) ?_
        refine lv_goto (tgt := 24) hx hb dX4_isHeaded_20 (by decide) ?_
        obtain rfl := Option.some.inj hf
        exact m_iret S hR hS rfl dX4_isHeaded_24

noncomputable def fX4_isCrown (x1 : Int32) (σ : mS) : Option (Int32 × mS) :=
  if (fX4_isSet x1 σ) = (0 : Int32) then some ((-2 : Int32), σ) else (fX4_nextTo x1 σ).bind (fun v1 => (fX4_isHeaded x1 v1 σ).bind (fun e2 => if e2.1 = (0 : Int32) then some ((0 : Int32), e2.2) else some ((1 : Int32), e2.2)))
theorem wi_X4_isCrown : wInfV yX4_isCrown cX4_isCrown 2 (Option.some Jvm.ClassFile.FieldType.int) 1 := ⟨q2842, q2843, q116, q2844, (by decide +kernel), (by decide +kernel), (by decide +kernel)⟩
set_option maxHeartbeats 4000000 in
set_option maxRecDepth 100000 in
theorem met_X4_isCrown {l : Launch} {G : mG} {x1 : Int32} {σ : mS} {res : Int32 × mS} (hf : fX4_isCrown x1 σ = some res) : mMet l yX4_isCrown cX4_isCrown 2 (Option.some Jvm.ClassFile.FieldType.int) (mRm 20 472) G [.ref (mo G), .int x1] σ (some (.int res.1)) res.2 := by
  replace hf : (if (fX4_isSet x1 σ) = (0 : Int32) then some ((-2 : Int32), σ) else (fX4_nextTo x1 σ).bind (fun v1 => (fX4_isHeaded x1 v1 σ).bind (fun e2 => if e2.1 = (0 : Int32) then some ((0 : Int32), e2.2) else some ((1 : Int32), e2.2)))) = some res := hf
  refine m_start (by decide) rfl (Nat.le_of_ble_eq_true rfl) ?_
  intro p e s m args below meth c S hR hS ls hl
  obtain ⟨hx, hb, hml, hown, hts⟩ := S.1.1
  have hl : lv_has ls 2 [(0, .ref (mo G)), (1, .int x1)] := hl
  refine lv_aload_n hx hb dX4_isCrown_0 rfl (lv_at hl 0 rfl) ?_
  refine lv_iload_n hx hb dX4_isCrown_1 rfl (lv_at hl 1 rfl) ?_
  refine m_call (As := [.int x1]) (rest := []) S hR hS (met_X4_isSet rfl) wi_X4_isSet rfl q2734 ⟨rfl, rfl⟩ ⟨Nat.le_of_ble_eq_true rfl, Nat.le_of_ble_eq_true rfl⟩ rfl hl.1 rfl (Nat.le_of_ble_eq_true rfl) dX4_isCrown_2 (fun H locs hR hS => ?_)
  refine lv_if_ne (tgt := 13) hx hb dX4_isCrown_5 (by decide) (fun c_5 => ?_) (fun c_5 => ?_)
  · replace hf := o_f hf c_5
    refine lv_aload_n hx hb dX4_isCrown_13 rfl (lv_at hl 0 rfl) ?_
    refine lv_iload_n hx hb dX4_isCrown_14 rfl (lv_at hl 1 rfl) ?_
    refine lv_aload_n hx hb dX4_isCrown_15 rfl (lv_at hl 0 rfl) ?_
    refine lv_iload_n hx hb dX4_isCrown_16 rfl (lv_at hl 1 rfl) ?_
    refine k_bind hf (fun v1 hv1 hf => ?_)
    refine m_call (As := [.int x1]) (rest := [.int x1, .ref (mo G)]) S hR hS (met_X4_nextTo hv1) wi_X4_nextTo rfl q2845 ⟨rfl, rfl⟩ ⟨Nat.le_of_ble_eq_true rfl, Nat.le_of_ble_eq_true rfl⟩ rfl hl.1 rfl (Nat.le_of_ble_eq_true rfl) dX4_isCrown_17 (fun H locs hR hS => ?_)
    refine k_bind hf (fun e2 he2 hf => ?_)
    refine m_call (As := [.int x1, .int v1]) (rest := []) S hR hS (met_X4_isHeaded he2) wi_X4_isHeaded rfl q2849 ⟨rfl, rfl⟩ ⟨Nat.le_of_ble_eq_true rfl, Nat.le_of_ble_eq_true rfl⟩ rfl hl.1 rfl (Nat.le_of_ble_eq_true rfl) dX4_isCrown_20 (fun H locs hR hS => ?_)
    refine lv_if_eq (tgt := 30) hx hb dX4_isCrown_23 (by decide) (fun c_23 => ?_) (fun c_23 => ?_)
    · replace hf := o_t hf c_23
      refine lv_iconst (v := 0) hx hb dX4_isCrown_30 (by decide) ?_
      obtain rfl := Option.some.inj hf
      exact m_iret S hR hS rfl dX4_isCrown_31
    · replace hf := o_f hf c_23
      refine lv_iconst (v := 1) hx hb dX4_isCrown_26 (by decide) ?_
      refine lv_goto (tgt := 31) hx hb dX4_isCrown_27 (by decide) ?_
      obtain rfl := Option.some.inj hf
      exact m_iret S hR hS rfl dX4_isCrown_31
  · replace hf := o_t hf c_5
    refine lv_bipush (v := -2) hx hb dX4_isCrown_8 (by decide) ?_
    refine lv_goto (tgt := 31) hx hb dX4_isCrown_10 (by decide) ?_
    obtain rfl := Option.some.inj hf
    exact m_iret S hR hS rfl dX4_isCrown_31

noncomputable def LX4_crowns_19 (y1 : Int32) (q : Int32 × Int32 × Int32 × mS) : Option ((Int32 × Int32 × Int32 × mS) ⊕ (Int32 × Int32 × mS)) :=
  if (fX4_all q.2.2.2) < q.2.2.1 then some (Sum.inr (q.1, q.2.1, q.2.2.2)) else (fX4_nextTo q.2.2.1 q.2.2.2).bind (fun v1 => (fX4_isHeaded q.2.2.1 v1 q.2.2.2).bind (fun e2 => if e2.1 = (0 : Int32) then some (Sum.inl (q.1, q.2.1, q.2.2.1 + (1 : Int32), e2.2)) else (fX4_bits q.2.2.1).bind (fun v3 => (fX4_bits q.2.1).bind (fun v4 => if v3 ≤ v4 then some (Sum.inl (q.1 + (1 : Int32), q.2.1, q.2.2.1 + (1 : Int32), e2.2)) else some (Sum.inl (q.1 + (1 : Int32), q.2.2.1, q.2.2.1 + (1 : Int32), e2.2))))))
noncomputable def fX4_crowns (x1 : Int32) (σ : mS) : Option (Int32 × mS) :=
  if (fX4_in x1 (0 : Int32) (2 : Int32)) = (0 : Int32) then some ((-2 : Int32), σ) else (lpw (LX4_crowns_19 x1) ((0 : Int32), (0 : Int32), (1 : Int32), σ)).bind (fun b5 => if x1 = (0 : Int32) then some (b5.1, b5.2.2) else if b5.1 = (0 : Int32) then some ((-1 : Int32), b5.2.2) else if x1 = (1 : Int32) then some (b5.2.1, b5.2.2) else (fX4_nextTo b5.2.1 b5.2.2).bind (fun v6 => some (v6, b5.2.2)))
theorem wi_X4_crowns : wInfV yX4_crowns cX4_crowns 5 (Option.some Jvm.ClassFile.FieldType.int) 1 := ⟨q2854, q2855, q116, q2856, (by decide +kernel), (by decide +kernel), (by decide +kernel)⟩
set_option maxHeartbeats 4000000 in
set_option maxRecDepth 100000 in
theorem wbLX4_crowns_19 {l : Launch} {G : mG} {p : Program} {e : Env} {s : State} {m : MethodId} {args : Array Value} {below : List Frame} {meth : Method} {c : Code} {Q : State → Prop} {y1 : Int32} {q : Int32 × Int32 × Int32 × mS} {res : (Int32 × Int32 × Int32 × mS) ⊕ (Int32 × Int32 × mS)} (S : mSt G p m c cX4_crowns 5 s args meth (Option.some Jvm.ClassFile.FieldType.int)) (hf : LX4_crowns_19 y1 q = some res) (hK : ∀ q, res = Sum.inl q → (∀ (H : Heap) (locs : List Loc) (ls : Array Slot), mR G q.2.2.2 H → va_S (mA G) s.heap H locs → lv_has ls 5 [(0, .ref (mo G)), (1, .int y1), (2, .int q.1), (3, .int q.2.1), (4, .int q.2.2.1)] → W p l e (mRm 20 472) s m args below meth c H locs 0 0 Q (F0 m 19 ls []))) (hE74 : ∀ b, res = Sum.inr b → (∀ (H : Heap) (locs : List Loc) (ls : Array Slot), mR G b.2.2 H → va_S (mA G) s.heap H locs → lv_has ls 5 [(0, .ref (mo G)), (1, .int y1), (2, .int b.1), (3, .int b.2.1)] → W p l e (mRm 20 472) s m args below meth c H locs 0 0 Q (F0 m 74 ls []))) : (∀ (H : Heap) (locs : List Loc) (ls : Array Slot), mR G q.2.2.2 H → va_S (mA G) s.heap H locs → lv_has ls 5 [(0, .ref (mo G)), (1, .int y1), (2, .int q.1), (3, .int q.2.1), (4, .int q.2.2.1)] → W p l e (mRm 20 472) s m args below meth c H locs 0 0 Q (F0 m 19 ls [])) := by
  replace hf : (if (fX4_all q.2.2.2) < q.2.2.1 then some (Sum.inr (q.1, q.2.1, q.2.2.2)) else (fX4_nextTo q.2.2.1 q.2.2.2).bind (fun v1 => (fX4_isHeaded q.2.2.1 v1 q.2.2.2).bind (fun e2 => if e2.1 = (0 : Int32) then some (Sum.inl (q.1, q.2.1, q.2.2.1 + (1 : Int32), e2.2)) else (fX4_bits q.2.2.1).bind (fun v3 => (fX4_bits q.2.1).bind (fun v4 => if v3 ≤ v4 then some (Sum.inl (q.1 + (1 : Int32), q.2.1, q.2.2.1 + (1 : Int32), e2.2)) else some (Sum.inl (q.1 + (1 : Int32), q.2.2.1, q.2.2.1 + (1 : Int32), e2.2))))))) = some res := hf
  obtain ⟨hx, hb, hml, hown, hts⟩ := S.1.1
  intro H locs ls hR hS hl
  refine lv_iload hx hb dX4_crowns_19 (lv_at hl 4 rfl) ?_
  refine lv_aload_n hx hb dX4_crowns_21 rfl (lv_at hl 0 rfl) ?_
  refine m_call (As := []) (rest := [.int q.2.2.1]) S hR hS (met_X4_all rfl) wi_X4_all rfl q2738 ⟨rfl, rfl⟩ ⟨Nat.le_of_ble_eq_true rfl, Nat.le_of_ble_eq_true rfl⟩ rfl hl.1 rfl (Nat.le_of_ble_eq_true rfl) dX4_crowns_22 (fun H locs hR hS => ?_)
  refine lv_icmp_gt (tgt := 74) hx hb dX4_crowns_25 (by decide) (fun c_25 => ?_) (fun c_25 => ?_)
  · replace hf := o_t hf c_25
    exact hE74 _ (Option.some.inj hf).symm _ _ _ hR hS (lv_sub (l' := [(0, .ref (mo G)), (1, .int y1), (2, .int q.1), (3, .int q.2.1)]) hl [0, 1, 2, 3] rfl)
  · replace hf := o_f hf c_25
    refine lv_aload_n hx hb dX4_crowns_28 rfl (lv_at hl 0 rfl) ?_
    refine lv_iload hx hb dX4_crowns_29 (lv_at hl 4 rfl) ?_
    refine lv_aload_n hx hb dX4_crowns_31 rfl (lv_at hl 0 rfl) ?_
    refine lv_iload hx hb dX4_crowns_32 (lv_at hl 4 rfl) ?_
    refine k_bind hf (fun v1 hv1 hf => ?_)
    refine m_call (As := [.int q.2.2.1]) (rest := [.int q.2.2.1, .ref (mo G)]) S hR hS (met_X4_nextTo hv1) wi_X4_nextTo rfl q2845 ⟨rfl, rfl⟩ ⟨Nat.le_of_ble_eq_true rfl, Nat.le_of_ble_eq_true rfl⟩ rfl hl.1 rfl (Nat.le_of_ble_eq_true rfl) dX4_crowns_34 (fun H locs hR hS => ?_)
    refine k_bind hf (fun e2 he2 hf => ?_)
    refine m_call (As := [.int q.2.2.1, .int v1]) (rest := []) S hR hS (met_X4_isHeaded he2) wi_X4_isHeaded rfl q2849 ⟨rfl, rfl⟩ ⟨Nat.le_of_ble_eq_true rfl, Nat.le_of_ble_eq_true rfl⟩ rfl hl.1 rfl (Nat.le_of_ble_eq_true rfl) dX4_crowns_37 (fun H locs hR hS => ?_)
    refine lv_if_ne (tgt := 46) hx hb dX4_crowns_40 (by decide) (fun c_40 => ?_) (fun c_40 => ?_)
    · replace hf := o_f hf c_40
      refine lv_iinc (lv' := [(2, .int (q.1 + (1 : Int32))), (0, .ref (mo G)), (1, .int y1), (3, .int q.2.1), (4, .int q.2.2.1)]) hx hb dX4_crowns_46 hl (k := 2) rfl (m_inc (by decide)) (by decide) rfl (fun ls hl => ?_)
      refine lv_iload hx hb dX4_crowns_49 (lv_at hl 4 rfl) ?_
      refine k_bind hf (fun v3 hv3 hf => ?_)
      refine s_call (As := [.int q.2.2.1]) (rest := []) S.1.1 (met_X4_bits hv3) wi_X4_bits q2712 ⟨rfl, rfl⟩ ⟨Nat.le_of_ble_eq_true rfl, Nat.le_of_ble_eq_true rfl⟩ rfl hl.1 rfl (Nat.le_of_ble_eq_true rfl) dX4_crowns_51 ⟨Nat.zero_le _, Nat.zero_le _⟩ ?_
      refine lv_iload_n hx hb dX4_crowns_54 rfl (lv_at hl 3 rfl) ?_
      refine k_bind hf (fun v4 hv4 hf => ?_)
      refine s_call (As := [.int q.2.1]) (rest := [.int v3]) S.1.1 (met_X4_bits hv4) wi_X4_bits q2712 ⟨rfl, rfl⟩ ⟨Nat.le_of_ble_eq_true rfl, Nat.le_of_ble_eq_true rfl⟩ rfl hl.1 rfl (Nat.le_of_ble_eq_true rfl) dX4_crowns_55 ⟨Nat.zero_le _, Nat.zero_le _⟩ ?_
      refine lv_icmp_le (tgt := 66) hx hb dX4_crowns_58 (by decide) (fun c_58 => ?_) (fun c_58 => ?_)
      · replace hf := o_t hf c_58
        refine lv_iload_n hx hb dX4_crowns_66 rfl (lv_at hl 3 rfl) ?_
        refine lv_istore_n (lv' := [(3, .int q.2.1), (2, .int (q.1 + (1 : Int32))), (0, .ref (mo G)), (1, .int y1), (4, .int q.2.2.1)]) hx hb dX4_crowns_67 rfl hl (by decide) rfl (fun ls hl => ?_)
        refine lv_iinc (lv' := [(4, .int (q.2.2.1 + (1 : Int32))), (3, .int q.2.1), (2, .int (q.1 + (1 : Int32))), (0, .ref (mo G)), (1, .int y1)]) hx hb dX4_crowns_68 hl (k := 4) rfl (m_inc (by decide)) (by decide) rfl (fun ls hl => ?_)
        refine lv_goto (tgt := 19) hx hb dX4_crowns_71 (by decide) ?_
        exact hK _ (Option.some.inj hf).symm _ _ _ hR hS (lv_sub (l' := [(0, .ref (mo G)), (1, .int y1), (2, .int (q.1 + (1 : Int32))), (3, .int q.2.1), (4, .int (q.2.2.1 + (1 : Int32)))]) hl [3, 4, 2, 1, 0] rfl)
      · replace hf := o_f hf c_58
        refine lv_iload hx hb dX4_crowns_61 (lv_at hl 4 rfl) ?_
        refine lv_goto (tgt := 67) hx hb dX4_crowns_63 (by decide) ?_
        refine lv_istore_n (lv' := [(3, .int q.2.2.1), (2, .int (q.1 + (1 : Int32))), (0, .ref (mo G)), (1, .int y1), (4, .int q.2.2.1)]) hx hb dX4_crowns_67 rfl hl (by decide) rfl (fun ls hl => ?_)
        refine lv_iinc (lv' := [(4, .int (q.2.2.1 + (1 : Int32))), (3, .int q.2.2.1), (2, .int (q.1 + (1 : Int32))), (0, .ref (mo G)), (1, .int y1)]) hx hb dX4_crowns_68 hl (k := 4) rfl (m_inc (by decide)) (by decide) rfl (fun ls hl => ?_)
        refine lv_goto (tgt := 19) hx hb dX4_crowns_71 (by decide) ?_
        exact hK _ (Option.some.inj hf).symm _ _ _ hR hS (lv_sub (l' := [(0, .ref (mo G)), (1, .int y1), (2, .int (q.1 + (1 : Int32))), (3, .int q.2.2.1), (4, .int (q.2.2.1 + (1 : Int32)))]) hl [3, 4, 2, 1, 0] rfl)
    · replace hf := o_t hf c_40
      refine lv_goto (tgt := 68) hx hb dX4_crowns_43 (by decide) ?_
      refine lv_iinc (lv' := [(4, .int (q.2.2.1 + (1 : Int32))), (0, .ref (mo G)), (1, .int y1), (2, .int q.1), (3, .int q.2.1)]) hx hb dX4_crowns_68 hl (k := 4) rfl (m_inc (by decide)) (by decide) rfl (fun ls hl => ?_)
      refine lv_goto (tgt := 19) hx hb dX4_crowns_71 (by decide) ?_
      exact hK _ (Option.some.inj hf).symm _ _ _ hR hS (lv_sub (l' := [(0, .ref (mo G)), (1, .int y1), (2, .int q.1), (3, .int q.2.1), (4, .int (q.2.2.1 + (1 : Int32)))]) hl [1, 2, 3, 4, 0] rfl)
set_option maxHeartbeats 4000000 in
set_option maxRecDepth 100000 in
theorem wLX4_crowns_19 {l : Launch} {G : mG} {p : Program} {e : Env} {s : State} {m : MethodId} {args : Array Value} {below : List Frame} {meth : Method} {c : Code} {Q : State → Prop} {y1 : Int32} {q : Int32 × Int32 × Int32 × mS} {res : Int32 × Int32 × mS} (S : mSt G p m c cX4_crowns 5 s args meth (Option.some Jvm.ClassFile.FieldType.int)) (h : lpw (LX4_crowns_19 y1) q = some res) (hE74 : ∀ b, res = b → (∀ (H : Heap) (locs : List Loc) (ls : Array Slot), mR G b.2.2 H → va_S (mA G) s.heap H locs → lv_has ls 5 [(0, .ref (mo G)), (1, .int y1), (2, .int b.1), (3, .int b.2.1)] → W p l e (mRm 20 472) s m args below meth c H locs 0 0 Q (F0 m 74 ls []))) : (∀ (H : Heap) (locs : List Loc) (ls : Array Slot), mR G q.2.2.2 H → va_S (mA G) s.heap H locs → lv_has ls 5 [(0, .ref (mo G)), (1, .int y1), (2, .int q.1), (3, .int q.2.1), (4, .int q.2.2.1)] → W p l e (mRm 20 472) s m args below meth c H locs 0 0 Q (F0 m 19 ls [])) :=
  lpw_go _ (fun q => (∀ (H : Heap) (locs : List Loc) (ls : Array Slot), mR G q.2.2.2 H → va_S (mA G) s.heap H locs → lv_has ls 5 [(0, .ref (mo G)), (1, .int y1), (2, .int q.1), (3, .int q.2.1), (4, .int q.2.2.1)] → W p l e (mRm 20 472) s m args below meth c H locs 0 0 Q (F0 m 19 ls []))) (fun b0 => (∀ b, b0 = b → (∀ (H : Heap) (locs : List Loc) (ls : Array Slot), mR G b.2.2 H → va_S (mA G) s.heap H locs → lv_has ls 5 [(0, .ref (mo G)), (1, .int y1), (2, .int b.1), (3, .int b.2.1)] → W p l e (mRm 20 472) s m args below meth c H locs 0 0 Q (F0 m 74 ls [])))) (fun q x hf hK hX => wbLX4_crowns_19 S hf hK (fun b eb => (hX _ eb) b rfl)) q res h hE74
set_option maxHeartbeats 4000000 in
set_option maxRecDepth 100000 in
theorem met_X4_crowns {l : Launch} {G : mG} {x1 : Int32} {σ : mS} {res : Int32 × mS} (hf : fX4_crowns x1 σ = some res) : mMet l yX4_crowns cX4_crowns 5 (Option.some Jvm.ClassFile.FieldType.int) (mRm 20 472) G [.ref (mo G), .int x1] σ (some (.int res.1)) res.2 := by
  replace hf : (if (fX4_in x1 (0 : Int32) (2 : Int32)) = (0 : Int32) then some ((-2 : Int32), σ) else (lpw (LX4_crowns_19 x1) ((0 : Int32), (0 : Int32), (1 : Int32), σ)).bind (fun b5 => if x1 = (0 : Int32) then some (b5.1, b5.2.2) else if b5.1 = (0 : Int32) then some ((-1 : Int32), b5.2.2) else if x1 = (1 : Int32) then some (b5.2.1, b5.2.2) else (fX4_nextTo b5.2.1 b5.2.2).bind (fun v6 => some (v6, b5.2.2)))) = some res := hf
  refine m_start (by decide) rfl (Nat.le_of_ble_eq_true rfl) ?_
  intro p e s m args below meth c S hR hS ls hl
  obtain ⟨hx, hb, hml, hown, hts⟩ := S.1.1
  have hl : lv_has ls 5 [(0, .ref (mo G)), (1, .int x1)] := hl
  refine lv_iload_n hx hb dX4_crowns_0 rfl (lv_at hl 1 rfl) ?_
  refine lv_iconst (v := 0) hx hb dX4_crowns_1 (by decide) ?_
  refine lv_iconst (v := 2) hx hb dX4_crowns_2 (by decide) ?_
  refine s_call (As := [.int x1, .int (0 : Int32), .int (2 : Int32)]) (rest := []) S.1.1 (met_X4_in rfl) wi_X4_in q2681 ⟨rfl, rfl⟩ ⟨Nat.le_of_ble_eq_true rfl, Nat.le_of_ble_eq_true rfl⟩ rfl hl.1 rfl (Nat.le_of_ble_eq_true rfl) dX4_crowns_3 ⟨Nat.zero_le _, Nat.zero_le _⟩ ?_
  refine lv_if_ne (tgt := 12) hx hb dX4_crowns_6 (by decide) (fun c_6 => ?_) (fun c_6 => ?_)
  · replace hf := o_f hf c_6
    refine lv_iconst (v := 0) hx hb dX4_crowns_12 (by decide) ?_
    refine lv_istore_n (lv' := [(2, .int (0 : Int32)), (0, .ref (mo G)), (1, .int x1)]) hx hb dX4_crowns_13 rfl hl (by decide) rfl (fun ls hl => ?_)
    refine lv_iconst (v := 0) hx hb dX4_crowns_14 (by decide) ?_
    refine lv_istore_n (lv' := [(3, .int (0 : Int32)), (2, .int (0 : Int32)), (0, .ref (mo G)), (1, .int x1)]) hx hb dX4_crowns_15 rfl hl (by decide) rfl (fun ls hl => ?_)
    refine lv_iconst (v := 1) hx hb dX4_crowns_16 (by decide) ?_
    refine lv_istore (lv' := [(4, .int (1 : Int32)), (3, .int (0 : Int32)), (2, .int (0 : Int32)), (0, .ref (mo G)), (1, .int x1)]) hx hb dX4_crowns_17 hl (by decide) rfl (fun ls hl => ?_)
    refine k_bind hf (fun b5 hb5 hf => ?_)
    refine wLX4_crowns_19 S hb5 ?_ _ _ _ hR hS (lv_sub (l' := [(0, .ref (mo G)), (1, .int x1), (2, .int (0 : Int32)), (3, .int (0 : Int32)), (4, .int (1 : Int32))]) hl [3, 4, 2, 1, 0] rfl)
    · intro b eb; subst eb; intro H locs ls hR hS hl
      refine lv_iload_n hx hb dX4_crowns_74 rfl (lv_at hl 1 rfl) ?_
      refine lv_if_ne (tgt := 82) hx hb dX4_crowns_75 (by decide) (fun c_75 => ?_) (fun c_75 => ?_)
      · replace hf := o_f hf c_75
        refine lv_iload_n hx hb dX4_crowns_82 rfl (lv_at hl 2 rfl) ?_
        refine lv_if_ne (tgt := 90) hx hb dX4_crowns_83 (by decide) (fun c_83 => ?_) (fun c_83 => ?_)
        · replace hf := o_f hf c_83
          refine lv_iload_n hx hb dX4_crowns_90 rfl (lv_at hl 1 rfl) ?_
          refine lv_iconst (v := 1) hx hb dX4_crowns_91 (by decide) ?_
          refine lv_icmp_ne (tgt := 99) hx hb dX4_crowns_92 (by decide) (fun c_92 => ?_) (fun c_92 => ?_)
          · replace hf := o_f hf c_92
            refine lv_aload_n hx hb dX4_crowns_99 rfl (lv_at hl 0 rfl) ?_
            refine lv_iload_n hx hb dX4_crowns_100 rfl (lv_at hl 3 rfl) ?_
            refine k_bind hf (fun v6 hv6 hf => ?_)
            refine m_call (As := [.int b5.2.1]) (rest := []) S hR hS (met_X4_nextTo hv6) wi_X4_nextTo rfl q2845 ⟨rfl, rfl⟩ ⟨Nat.le_of_ble_eq_true rfl, Nat.le_of_ble_eq_true rfl⟩ rfl hl.1 rfl (Nat.le_of_ble_eq_true rfl) dX4_crowns_101 (fun H locs hR hS => ?_)
            obtain rfl := Option.some.inj hf
            exact m_iret S hR hS rfl dX4_crowns_104
          · replace hf := o_t hf c_92
            refine lv_iload_n hx hb dX4_crowns_95 rfl (lv_at hl 3 rfl) ?_
            refine lv_goto (tgt := 104) hx hb dX4_crowns_96 (by decide) ?_
            obtain rfl := Option.some.inj hf
            exact m_iret S hR hS rfl dX4_crowns_104
        · replace hf := o_t hf c_83
          refine lv_iconst (v := -1) hx hb dX4_crowns_86 (by decide) ?_
          refine lv_goto (tgt := 104) hx hb dX4_crowns_87 (by decide) ?_
          obtain rfl := Option.some.inj hf
          exact m_iret S hR hS rfl dX4_crowns_104
      · replace hf := o_t hf c_75
        refine lv_iload_n hx hb dX4_crowns_78 rfl (lv_at hl 2 rfl) ?_
        refine lv_goto (tgt := 104) hx hb dX4_crowns_79 (by decide) ?_
        obtain rfl := Option.some.inj hf
        exact m_iret S hR hS rfl dX4_crowns_104
  · replace hf := o_t hf c_6
    refine lv_bipush (v := -2) hx hb dX4_crowns_9 (by decide) ?_
    obtain rfl := Option.some.inj hf
    exact m_iret S hR hS rfl dX4_crowns_11

noncomputable def fX4_degree (x1 : Int32) (x2 : Int32) (σ : mS) : Option Int32 :=
  (mald σ 4 x1).bind (fun v1 => (fX4_bits (v1 &&& x2)).bind (fun v2 => some v2))
theorem wi_X4_degree : wInfV yX4_degree cX4_degree 3 (Option.some Jvm.ClassFile.FieldType.int) 2 := ⟨q2871, qs80, q116, q2872, (by decide +kernel), (by decide +kernel), (by decide +kernel)⟩
set_option maxHeartbeats 4000000 in
set_option maxRecDepth 100000 in
theorem met_X4_degree {l : Launch} {G : mG} {x1 : Int32} {x2 : Int32} {σ : mS} {res : Int32} (hf : fX4_degree x1 x2 σ = some res) : mMet l yX4_degree cX4_degree 3 (Option.some Jvm.ClassFile.FieldType.int) (mRm 1 22) G [.ref (mo G), .int x1, .int x2] σ (some (.int res)) σ := by
  replace hf : ((mald σ 4 x1).bind (fun v1 => (fX4_bits (v1 &&& x2)).bind (fun v2 => some v2))) = some res := hf
  refine m_start (by decide) rfl (Nat.le_of_ble_eq_true rfl) ?_
  intro p e s m args below meth c S hR hS ls hl
  obtain ⟨hx, hb, hml, hown, hts⟩ := S.1.1
  have hl : lv_has ls 3 [(0, .ref (mo G)), (1, .int x1), (2, .int x2)] := hl
  refine lv_aload_n hx hb dX4_degree_0 rfl (lv_at hl 0 rfl) ?_
  refine m_geta (k := 4) S hR (by decide) (by decide) q2530 dX4_degree_1 ?_
  refine lv_iload_n hx hb dX4_degree_4 rfl (lv_at hl 1 rfl) ?_
  refine k_bind hf (fun v1 hv1 hf => ?_)
  refine m_iald S hR hv1 dX4_degree_5 ?_
  refine lv_iload_n hx hb dX4_degree_6 rfl (lv_at hl 2 rfl) ?_
  refine lv_iand hx hb dX4_degree_7 ?_
  refine k_bind hf (fun v2 hv2 hf => ?_)
  refine s_call (As := [.int (v1 &&& x2)]) (rest := []) S.1.1 (met_X4_bits hv2) wi_X4_bits q2712 ⟨rfl, rfl⟩ ⟨Nat.le_of_ble_eq_true rfl, Nat.le_of_ble_eq_true rfl⟩ rfl hl.1 rfl (Nat.le_of_ble_eq_true rfl) dX4_degree_8 ⟨Nat.zero_le _, Nat.zero_le _⟩ ?_
  obtain rfl := Option.some.inj hf
  exact m_iret S hR hS rfl dX4_degree_11

noncomputable def fX4_rule (x1 : Int32) (x2 : Int32) (x3 : Int32) (σ : mS) : Option (Int32 × mS) :=
  (mast σ 13 (0 : Int32) x1).bind (fun σ1 => (mast σ1 13 (1 : Int32) x2).bind (fun σ2 => (mast σ2 13 (2 : Int32) x3).bind (fun σ3 => some ((1 : Int32), σ3))))
theorem wi_X4_rule : wInfV yX4_rule cX4_rule 4 (Option.some Jvm.ClassFile.FieldType.boolean) 3 := ⟨q2875, qs81, q116, q2876, (by decide +kernel), (by decide +kernel), (by decide +kernel)⟩
set_option maxHeartbeats 4000000 in
set_option maxRecDepth 100000 in
theorem met_X4_rule {l : Launch} {G : mG} {x1 : Int32} {x2 : Int32} {x3 : Int32} {σ : mS} {res : Int32 × mS} (hf : fX4_rule x1 x2 x3 σ = some res) : mMet l yX4_rule cX4_rule 4 (Option.some Jvm.ClassFile.FieldType.boolean) (mRm 0 0) G [.ref (mo G), .int x1, .int x2, .int x3] σ (some (.int res.1)) res.2 := by
  replace hf : ((mast σ 13 (0 : Int32) x1).bind (fun σ1 => (mast σ1 13 (1 : Int32) x2).bind (fun σ2 => (mast σ2 13 (2 : Int32) x3).bind (fun σ3 => some ((1 : Int32), σ3))))) = some res := hf
  refine m_start (by decide) rfl (Nat.le_of_ble_eq_true rfl) ?_
  intro p e s m args below meth c S hR hS ls hl
  obtain ⟨hx, hb, hml, hown, hts⟩ := S.1.1
  have hl : lv_has ls 4 [(0, .ref (mo G)), (1, .int x1), (2, .int x2), (3, .int x3)] := hl
  refine lv_aload_n hx hb dX4_rule_0 rfl (lv_at hl 0 rfl) ?_
  refine m_geta (k := 13) S hR (by decide) (by decide) q2539 dX4_rule_1 ?_
  refine lv_iconst (v := 0) hx hb dX4_rule_4 (by decide) ?_
  refine lv_iload_n hx hb dX4_rule_5 rfl (lv_at hl 1 rfl) ?_
  refine k_bind hf (fun σ1 hσ1 hf => ?_)
  refine m_iast S hR hS hσ1 dX4_rule_6 (fun H locs hR hS => ?_)
  refine lv_aload_n hx hb dX4_rule_7 rfl (lv_at hl 0 rfl) ?_
  refine m_geta (k := 13) S hR (by decide) (by decide) q2539 dX4_rule_8 ?_
  refine lv_iconst (v := 1) hx hb dX4_rule_11 (by decide) ?_
  refine lv_iload_n hx hb dX4_rule_12 rfl (lv_at hl 2 rfl) ?_
  refine k_bind hf (fun σ2 hσ2 hf => ?_)
  refine m_iast S hR hS hσ2 dX4_rule_13 (fun H locs hR hS => ?_)
  refine lv_aload_n hx hb dX4_rule_14 rfl (lv_at hl 0 rfl) ?_
  refine m_geta (k := 13) S hR (by decide) (by decide) q2539 dX4_rule_15 ?_
  refine lv_iconst (v := 2) hx hb dX4_rule_18 (by decide) ?_
  refine lv_iload_n hx hb dX4_rule_19 rfl (lv_at hl 3 rfl) ?_
  refine k_bind hf (fun σ3 hσ3 hf => ?_)
  refine m_iast S hR hS hσ3 dX4_rule_20 (fun H locs hR hS => ?_)
  refine lv_iconst (v := 1) hx hb dX4_rule_21 (by decide) ?_
  obtain rfl := Option.some.inj hf
  exact m_iret S hR hS rfl dX4_rule_22

noncomputable def JX4_rules_73 (y1 : Int32) (y3 : Int32) (y4 : Int32) (y5 : Int32) (z0 : Int32) (σ : mS) : Option ((Int32 × Int32 × Int32 × Int32) ⊕ (Int32 × Int32 × Int32)) :=
  if y5 = (1 : Int32) then (some (y4 + (-1 : Int32))).bind (fun v4 => some (Sum.inl (y1, z0, y4, v4))) else (some (y4 + (-1 : Int32))).bind (fun v3 => some (Sum.inl (y1, z0, y3, v3)))
noncomputable def JX4_rules_57 (y2 : Int32) (y3 : Int32) (y4 : Int32) (y5 : Int32) (z0 : Int32) (σ : mS) : Option ((Int32 × Int32 × Int32 × Int32) ⊕ (Int32 × Int32 × Int32)) :=
  if y5 ≤ (σ.1 11) then JX4_rules_73 z0 y3 y4 y5 y2 σ else JX4_rules_73 z0 y3 y4 y5 y4 σ
noncomputable def LX4_rules_14 (σ : mS) (q : Int32 × Int32 × Int32 × Int32) : Option ((Int32 × Int32 × Int32 × Int32) ⊕ (Int32 × Int32 × Int32)) :=
  if q.2.2.2 < (0 : Int32) then some (Sum.inr (q.1, q.2.1, q.2.2.1)) else if (fX4_has (σ.1 9) q.2.2.2) = (0 : Int32) then (some (q.2.2.2 + (-1 : Int32))).bind (fun v5 => some (Sum.inl (q.1, q.2.1, q.2.2.1, v5))) else (fX4_degree q.2.2.2 (σ.1 9) σ).bind (fun v2 => if v2 = (0 : Int32) then JX4_rules_57 q.2.1 q.2.2.1 q.2.2.2 v2 q.2.2.2 σ else JX4_rules_57 q.2.1 q.2.2.1 q.2.2.2 v2 q.1 σ)
noncomputable def fX4_rules (σ : mS) : Option (Int32 × mS) :=
  (some ((σ.1 0) - (1 : Int32))).bind (fun v1 => (lpw (LX4_rules_14 σ) ((-1 : Int32), (-1 : Int32), (-1 : Int32), v1)).bind (fun b6 => if b6.1 = (-1 : Int32) then if b6.2.1 = (-1 : Int32) then if b6.2.2 = (-1 : Int32) then (fX4_laysHalves (σ.1 9) σ).bind (fun e7 => (fX4_halvesWith (0 : Int32) (e7.2.1 9) e7.2).bind (fun v8 => (fX4_halvesWith (2 : Int32) (e7.2.1 9) e7.2).bind (fun v9 => if v8 = (0 : Int32) then some ((0 : Int32), e7.2) else (fX4_rule (3 : Int32) (v8 ||| v9) v9 e7.2).bind (fun e10 => if e10.1 = (0 : Int32) then some ((0 : Int32), e10.2) else some ((1 : Int32), e10.2))))) else (mald σ 4 b6.2.2).bind (fun v11 => (mald σ 4 b6.2.2).bind (fun v12 => (fX4_rule (2 : Int32) ((ish (1 : Int32) b6.2.2) ||| (v11 &&& (σ.1 9))) (v12 &&& (σ.1 9)) σ).bind (fun e13 => some ((e13.1 &&& 1), e13.2)))) else (fX4_rule (1 : Int32) (ish (1 : Int32) b6.2.1) (ish (1 : Int32) b6.2.1) σ).bind (fun e14 => some ((e14.1 &&& 1), e14.2)) else (fX4_rule (0 : Int32) (ish (1 : Int32) b6.1) (0 : Int32) σ).bind (fun e15 => some ((e15.1 &&& 1), e15.2))))
theorem wi_X4_rules : wInfV yX4_rules cX4_rules 7 (Option.some Jvm.ClassFile.FieldType.boolean) 0 := ⟨q2867, qs79, q116, q2868, (by decide +kernel), (by decide +kernel), (by decide +kernel)⟩
set_option maxHeartbeats 4000000 in
set_option maxRecDepth 100000 in
theorem wJX4_rules_73 {l : Launch} {G : mG} {p : Program} {e : Env} {s : State} {m : MethodId} {args : Array Value} {below : List Frame} {meth : Method} {c : Code} {Q : State → Prop} {y1 : Int32} {y3 : Int32} {y4 : Int32} {y5 : Int32} {z0 : Int32} {σ : mS} {res : (Int32 × Int32 × Int32 × Int32) ⊕ (Int32 × Int32 × Int32)} (S : mSt G p m c cX4_rules 7 s args meth (Option.some Jvm.ClassFile.FieldType.boolean)) (hf : JX4_rules_73 y1 y3 y4 y5 z0 σ = some res) (hK : ∀ q, res = Sum.inl q → (∀ (H : Heap) (locs : List Loc) (ls : Array Slot), mR G σ H → va_S (mA G) s.heap H locs → lv_has ls 7 [(0, .ref (mo G)), (1, .int q.1), (2, .int q.2.1), (3, .int q.2.2.1), (4, .int q.2.2.2)] → W p l e (mRm 37 934) s m args below meth c H locs 0 0 Q (F0 m 14 ls []))) (hE93 : ∀ b, res = Sum.inr b → (∀ (H : Heap) (locs : List Loc) (ls : Array Slot), mR G σ H → va_S (mA G) s.heap H locs → lv_has ls 7 [(0, .ref (mo G)), (1, .int b.1), (2, .int b.2.1), (3, .int b.2.2)] → W p l e (mRm 37 934) s m args below meth c H locs 0 0 Q (F0 m 93 ls []))) : ∀ (H : Heap) (locs : List Loc) (ls : Array Slot), mR G σ H → va_S (mA G) s.heap H locs → lv_has ls 7 [(0, .ref (mo G)), (1, .int y1), (3, .int y3), (4, .int y4), (5, .int y5)] → W p l e (mRm 37 934) s m args below meth c H locs 0 0 Q (F0 m 73 ls [.int z0]) := by
  replace hf : (if y5 = (1 : Int32) then (some (y4 + (-1 : Int32))).bind (fun v4 => some (Sum.inl (y1, z0, y4, v4))) else (some (y4 + (-1 : Int32))).bind (fun v3 => some (Sum.inl (y1, z0, y3, v3)))) = some res := hf
  obtain ⟨hx, hb, hml, hown, hts⟩ := S.1.1
  intro H locs ls hR hS hl
  refine lv_istore_n (lv' := [(2, .int z0), (0, .ref (mo G)), (1, .int y1), (3, .int y3), (4, .int y4), (5, .int y5)]) hx hb dX4_rules_73 rfl hl (by decide) rfl (fun ls hl => ?_)
  refine lv_iload hx hb dX4_rules_74 (lv_at hl 5 rfl) ?_
  refine lv_iconst (v := 1) hx hb dX4_rules_76 (by decide) ?_
  refine lv_icmp_ne (tgt := 85) hx hb dX4_rules_77 (by decide) (fun c_77 => ?_) (fun c_77 => ?_)
  · replace hf := o_f hf c_77
    refine lv_iload_n hx hb dX4_rules_85 rfl (lv_at hl 3 rfl) ?_
    refine lv_istore_n (lv' := [(3, .int y3), (2, .int z0), (0, .ref (mo G)), (1, .int y1), (4, .int y4), (5, .int y5)]) hx hb dX4_rules_86 rfl hl (by decide) rfl (fun ls hl => ?_)
    refine k_bind hf (fun v3 hv3 hf => ?_)
    refine lv_iinc (lv' := [(4, .int v3), (3, .int y3), (2, .int z0), (0, .ref (mo G)), (1, .int y1), (5, .int y5)]) hx hb dX4_rules_87 hl (k := 4) rfl ((m_inc (by decide)).trans (Option.some.inj hv3)) (by decide) rfl (fun ls hl => ?_)
    refine lv_goto (tgt := 14) hx hb dX4_rules_90 (by decide) ?_
    exact hK _ (Option.some.inj hf).symm _ _ _ hR hS (lv_sub (l' := [(0, .ref (mo G)), (1, .int y1), (2, .int z0), (3, .int y3), (4, .int v3)]) hl [3, 4, 2, 1, 0] rfl)
  · replace hf := o_t hf c_77
    refine lv_iload hx hb dX4_rules_80 (lv_at hl 4 rfl) ?_
    refine lv_goto (tgt := 86) hx hb dX4_rules_82 (by decide) ?_
    refine lv_istore_n (lv' := [(3, .int y4), (2, .int z0), (0, .ref (mo G)), (1, .int y1), (4, .int y4), (5, .int y5)]) hx hb dX4_rules_86 rfl hl (by decide) rfl (fun ls hl => ?_)
    refine k_bind hf (fun v4 hv4 hf => ?_)
    refine lv_iinc (lv' := [(4, .int v4), (3, .int y4), (2, .int z0), (0, .ref (mo G)), (1, .int y1), (5, .int y5)]) hx hb dX4_rules_87 hl (k := 4) rfl ((m_inc (by decide)).trans (Option.some.inj hv4)) (by decide) rfl (fun ls hl => ?_)
    refine lv_goto (tgt := 14) hx hb dX4_rules_90 (by decide) ?_
    exact hK _ (Option.some.inj hf).symm _ _ _ hR hS (lv_sub (l' := [(0, .ref (mo G)), (1, .int y1), (2, .int z0), (3, .int y4), (4, .int v4)]) hl [3, 4, 2, 1, 0] rfl)
set_option maxHeartbeats 4000000 in
set_option maxRecDepth 100000 in
theorem wJX4_rules_57 {l : Launch} {G : mG} {p : Program} {e : Env} {s : State} {m : MethodId} {args : Array Value} {below : List Frame} {meth : Method} {c : Code} {Q : State → Prop} {y2 : Int32} {y3 : Int32} {y4 : Int32} {y5 : Int32} {z0 : Int32} {σ : mS} {res : (Int32 × Int32 × Int32 × Int32) ⊕ (Int32 × Int32 × Int32)} (S : mSt G p m c cX4_rules 7 s args meth (Option.some Jvm.ClassFile.FieldType.boolean)) (hf : JX4_rules_57 y2 y3 y4 y5 z0 σ = some res) (hK : ∀ q, res = Sum.inl q → (∀ (H : Heap) (locs : List Loc) (ls : Array Slot), mR G σ H → va_S (mA G) s.heap H locs → lv_has ls 7 [(0, .ref (mo G)), (1, .int q.1), (2, .int q.2.1), (3, .int q.2.2.1), (4, .int q.2.2.2)] → W p l e (mRm 37 934) s m args below meth c H locs 0 0 Q (F0 m 14 ls []))) (hE93 : ∀ b, res = Sum.inr b → (∀ (H : Heap) (locs : List Loc) (ls : Array Slot), mR G σ H → va_S (mA G) s.heap H locs → lv_has ls 7 [(0, .ref (mo G)), (1, .int b.1), (2, .int b.2.1), (3, .int b.2.2)] → W p l e (mRm 37 934) s m args below meth c H locs 0 0 Q (F0 m 93 ls []))) : ∀ (H : Heap) (locs : List Loc) (ls : Array Slot), mR G σ H → va_S (mA G) s.heap H locs → lv_has ls 7 [(0, .ref (mo G)), (2, .int y2), (3, .int y3), (4, .int y4), (5, .int y5)] → W p l e (mRm 37 934) s m args below meth c H locs 0 0 Q (F0 m 57 ls [.int z0]) := by
  replace hf : (if y5 ≤ (σ.1 11) then JX4_rules_73 z0 y3 y4 y5 y2 σ else JX4_rules_73 z0 y3 y4 y5 y4 σ) = some res := hf
  obtain ⟨hx, hb, hml, hown, hts⟩ := S.1.1
  intro H locs ls hR hS hl
  refine lv_istore_n (lv' := [(1, .int z0), (0, .ref (mo G)), (2, .int y2), (3, .int y3), (4, .int y4), (5, .int y5)]) hx hb dX4_rules_57 rfl hl (by decide) rfl (fun ls hl => ?_)
  refine lv_iload hx hb dX4_rules_58 (lv_at hl 5 rfl) ?_
  refine lv_aload_n hx hb dX4_rules_60 rfl (lv_at hl 1 rfl) ?_
  refine m_geti (k := 11) S hR (by decide) (by decide) q2537 dX4_rules_61 ?_
  refine lv_icmp_le (tgt := 72) hx hb dX4_rules_64 (by decide) (fun c_64 => ?_) (fun c_64 => ?_)
  · replace hf := o_t hf c_64
    refine lv_iload_n hx hb dX4_rules_72 rfl (lv_at hl 2 rfl) ?_
    exact wJX4_rules_73 S hf hK hE93 _ _ _ hR hS (lv_sub (l' := [(0, .ref (mo G)), (1, .int z0), (3, .int y3), (4, .int y4), (5, .int y5)]) hl [1, 0, 3, 4, 5] rfl)
  · replace hf := o_f hf c_64
    refine lv_iload hx hb dX4_rules_67 (lv_at hl 4 rfl) ?_
    refine lv_goto (tgt := 73) hx hb dX4_rules_69 (by decide) ?_
    exact wJX4_rules_73 S hf hK hE93 _ _ _ hR hS (lv_sub (l' := [(0, .ref (mo G)), (1, .int z0), (3, .int y3), (4, .int y4), (5, .int y5)]) hl [1, 0, 3, 4, 5] rfl)
set_option maxHeartbeats 4000000 in
set_option maxRecDepth 100000 in
theorem wbLX4_rules_14 {l : Launch} {G : mG} {p : Program} {e : Env} {s : State} {m : MethodId} {args : Array Value} {below : List Frame} {meth : Method} {c : Code} {Q : State → Prop} {σ : mS} {q : Int32 × Int32 × Int32 × Int32} {res : (Int32 × Int32 × Int32 × Int32) ⊕ (Int32 × Int32 × Int32)} (S : mSt G p m c cX4_rules 7 s args meth (Option.some Jvm.ClassFile.FieldType.boolean)) (hf : LX4_rules_14 σ q = some res) (hK : ∀ q, res = Sum.inl q → (∀ (H : Heap) (locs : List Loc) (ls : Array Slot), mR G σ H → va_S (mA G) s.heap H locs → lv_has ls 7 [(0, .ref (mo G)), (1, .int q.1), (2, .int q.2.1), (3, .int q.2.2.1), (4, .int q.2.2.2)] → W p l e (mRm 37 934) s m args below meth c H locs 0 0 Q (F0 m 14 ls []))) (hE93 : ∀ b, res = Sum.inr b → (∀ (H : Heap) (locs : List Loc) (ls : Array Slot), mR G σ H → va_S (mA G) s.heap H locs → lv_has ls 7 [(0, .ref (mo G)), (1, .int b.1), (2, .int b.2.1), (3, .int b.2.2)] → W p l e (mRm 37 934) s m args below meth c H locs 0 0 Q (F0 m 93 ls []))) : (∀ (H : Heap) (locs : List Loc) (ls : Array Slot), mR G σ H → va_S (mA G) s.heap H locs → lv_has ls 7 [(0, .ref (mo G)), (1, .int q.1), (2, .int q.2.1), (3, .int q.2.2.1), (4, .int q.2.2.2)] → W p l e (mRm 37 934) s m args below meth c H locs 0 0 Q (F0 m 14 ls [])) := by
  replace hf : (if q.2.2.2 < (0 : Int32) then some (Sum.inr (q.1, q.2.1, q.2.2.1)) else if (fX4_has (σ.1 9) q.2.2.2) = (0 : Int32) then (some (q.2.2.2 + (-1 : Int32))).bind (fun v5 => some (Sum.inl (q.1, q.2.1, q.2.2.1, v5))) else (fX4_degree q.2.2.2 (σ.1 9) σ).bind (fun v2 => if v2 = (0 : Int32) then JX4_rules_57 q.2.1 q.2.2.1 q.2.2.2 v2 q.2.2.2 σ else JX4_rules_57 q.2.1 q.2.2.1 q.2.2.2 v2 q.1 σ)) = some res := hf
  obtain ⟨hx, hb, hml, hown, hts⟩ := S.1.1
  intro H locs ls hR hS hl
  refine lv_iload hx hb dX4_rules_14 (lv_at hl 4 rfl) ?_
  refine lv_if_lt (tgt := 93) hx hb dX4_rules_16 (by decide) (fun c_16 => ?_) (fun c_16 => ?_)
  · replace hf := o_t hf c_16
    exact hE93 _ (Option.some.inj hf).symm _ _ _ hR hS (lv_sub (l' := [(0, .ref (mo G)), (1, .int q.1), (2, .int q.2.1), (3, .int q.2.2.1)]) hl [0, 1, 2, 3] rfl)
  · replace hf := o_f hf c_16
    refine lv_aload_n hx hb dX4_rules_19 rfl (lv_at hl 0 rfl) ?_
    refine m_geti (k := 9) S hR (by decide) (by decide) q2535 dX4_rules_20 ?_
    refine lv_iload hx hb dX4_rules_23 (lv_at hl 4 rfl) ?_
    refine s_call (As := [.int (σ.1 9), .int q.2.2.2]) (rest := []) S.1.1 (met_X4_has rfl) wi_X4_has q2750 ⟨rfl, rfl⟩ ⟨Nat.le_of_ble_eq_true rfl, Nat.le_of_ble_eq_true rfl⟩ rfl hl.1 rfl (Nat.le_of_ble_eq_true rfl) dX4_rules_25 ⟨Nat.zero_le _, Nat.zero_le _⟩ ?_
    refine lv_if_ne (tgt := 34) hx hb dX4_rules_28 (by decide) (fun c_28 => ?_) (fun c_28 => ?_)
    · replace hf := o_f hf c_28
      refine lv_aload_n hx hb dX4_rules_34 rfl (lv_at hl 0 rfl) ?_
      refine lv_iload hx hb dX4_rules_35 (lv_at hl 4 rfl) ?_
      refine lv_aload_n hx hb dX4_rules_37 rfl (lv_at hl 0 rfl) ?_
      refine m_geti (k := 9) S hR (by decide) (by decide) q2535 dX4_rules_38 ?_
      refine k_bind hf (fun v2 hv2 hf => ?_)
      refine m_call (As := [.int q.2.2.2, .int (σ.1 9)]) (rest := []) S hR hS (met_X4_degree hv2) wi_X4_degree rfl q2869 ⟨rfl, rfl⟩ ⟨Nat.le_of_ble_eq_true rfl, Nat.le_of_ble_eq_true rfl⟩ rfl hl.1 rfl (Nat.le_of_ble_eq_true rfl) dX4_rules_41 (fun H locs hR hS => ?_)
      refine lv_istore (lv' := [(5, .int v2), (0, .ref (mo G)), (1, .int q.1), (2, .int q.2.1), (3, .int q.2.2.1), (4, .int q.2.2.2)]) hx hb dX4_rules_44 hl (by decide) rfl (fun ls hl => ?_)
      refine lv_iload hx hb dX4_rules_46 (lv_at hl 0 rfl) ?_
      refine lv_if_ne (tgt := 56) hx hb dX4_rules_48 (by decide) (fun c_48 => ?_) (fun c_48 => ?_)
      · replace hf := o_f hf c_48
        refine lv_iload_n hx hb dX4_rules_56 rfl (lv_at hl 2 rfl) ?_
        exact wJX4_rules_57 S hf hK hE93 _ _ _ hR hS (lv_sub (l' := [(0, .ref (mo G)), (2, .int q.2.1), (3, .int q.2.2.1), (4, .int q.2.2.2), (5, .int v2)]) hl [1, 3, 4, 5, 0] rfl)
      · replace hf := o_t hf c_48
        refine lv_iload hx hb dX4_rules_51 (lv_at hl 5 rfl) ?_
        refine lv_goto (tgt := 57) hx hb dX4_rules_53 (by decide) ?_
        exact wJX4_rules_57 S hf hK hE93 _ _ _ hR hS (lv_sub (l' := [(0, .ref (mo G)), (2, .int q.2.1), (3, .int q.2.2.1), (4, .int q.2.2.2), (5, .int v2)]) hl [1, 3, 4, 5, 0] rfl)
    · replace hf := o_t hf c_28
      refine lv_goto (tgt := 87) hx hb dX4_rules_31 (by decide) ?_
      refine k_bind hf (fun v5 hv5 hf => ?_)
      refine lv_iinc (lv' := [(4, .int v5), (0, .ref (mo G)), (1, .int q.1), (2, .int q.2.1), (3, .int q.2.2.1)]) hx hb dX4_rules_87 hl (k := 4) rfl ((m_inc (by decide)).trans (Option.some.inj hv5)) (by decide) rfl (fun ls hl => ?_)
      refine lv_goto (tgt := 14) hx hb dX4_rules_90 (by decide) ?_
      exact hK _ (Option.some.inj hf).symm _ _ _ hR hS (lv_sub (l' := [(0, .ref (mo G)), (1, .int q.1), (2, .int q.2.1), (3, .int q.2.2.1), (4, .int v5)]) hl [1, 2, 3, 4, 0] rfl)
set_option maxHeartbeats 4000000 in
set_option maxRecDepth 100000 in
theorem wLX4_rules_14 {l : Launch} {G : mG} {p : Program} {e : Env} {s : State} {m : MethodId} {args : Array Value} {below : List Frame} {meth : Method} {c : Code} {Q : State → Prop} {σ : mS} {q : Int32 × Int32 × Int32 × Int32} {res : Int32 × Int32 × Int32} (S : mSt G p m c cX4_rules 7 s args meth (Option.some Jvm.ClassFile.FieldType.boolean)) (h : lpw (LX4_rules_14 σ) q = some res) (hE93 : ∀ b, res = b → (∀ (H : Heap) (locs : List Loc) (ls : Array Slot), mR G σ H → va_S (mA G) s.heap H locs → lv_has ls 7 [(0, .ref (mo G)), (1, .int b.1), (2, .int b.2.1), (3, .int b.2.2)] → W p l e (mRm 37 934) s m args below meth c H locs 0 0 Q (F0 m 93 ls []))) : (∀ (H : Heap) (locs : List Loc) (ls : Array Slot), mR G σ H → va_S (mA G) s.heap H locs → lv_has ls 7 [(0, .ref (mo G)), (1, .int q.1), (2, .int q.2.1), (3, .int q.2.2.1), (4, .int q.2.2.2)] → W p l e (mRm 37 934) s m args below meth c H locs 0 0 Q (F0 m 14 ls [])) :=
  lpw_go _ (fun q => (∀ (H : Heap) (locs : List Loc) (ls : Array Slot), mR G σ H → va_S (mA G) s.heap H locs → lv_has ls 7 [(0, .ref (mo G)), (1, .int q.1), (2, .int q.2.1), (3, .int q.2.2.1), (4, .int q.2.2.2)] → W p l e (mRm 37 934) s m args below meth c H locs 0 0 Q (F0 m 14 ls []))) (fun b0 => (∀ b, b0 = b → (∀ (H : Heap) (locs : List Loc) (ls : Array Slot), mR G σ H → va_S (mA G) s.heap H locs → lv_has ls 7 [(0, .ref (mo G)), (1, .int b.1), (2, .int b.2.1), (3, .int b.2.2)] → W p l e (mRm 37 934) s m args below meth c H locs 0 0 Q (F0 m 93 ls [])))) (fun q x hf hK hX => wbLX4_rules_14 S hf hK (fun b eb => (hX _ eb) b rfl)) q res h hE93
set_option maxHeartbeats 4000000 in
set_option maxRecDepth 100000 in
theorem met_X4_rules {l : Launch} {G : mG} {σ : mS} {res : Int32 × mS} (hf : fX4_rules σ = some res) : mMet l yX4_rules cX4_rules 7 (Option.some Jvm.ClassFile.FieldType.boolean) (mRm 37 934) G [.ref (mo G)] σ (some (.int res.1)) res.2 := by
  replace hf : ((some ((σ.1 0) - (1 : Int32))).bind (fun v1 => (lpw (LX4_rules_14 σ) ((-1 : Int32), (-1 : Int32), (-1 : Int32), v1)).bind (fun b6 => if b6.1 = (-1 : Int32) then if b6.2.1 = (-1 : Int32) then if b6.2.2 = (-1 : Int32) then (fX4_laysHalves (σ.1 9) σ).bind (fun e7 => (fX4_halvesWith (0 : Int32) (e7.2.1 9) e7.2).bind (fun v8 => (fX4_halvesWith (2 : Int32) (e7.2.1 9) e7.2).bind (fun v9 => if v8 = (0 : Int32) then some ((0 : Int32), e7.2) else (fX4_rule (3 : Int32) (v8 ||| v9) v9 e7.2).bind (fun e10 => if e10.1 = (0 : Int32) then some ((0 : Int32), e10.2) else some ((1 : Int32), e10.2))))) else (mald σ 4 b6.2.2).bind (fun v11 => (mald σ 4 b6.2.2).bind (fun v12 => (fX4_rule (2 : Int32) ((ish (1 : Int32) b6.2.2) ||| (v11 &&& (σ.1 9))) (v12 &&& (σ.1 9)) σ).bind (fun e13 => some ((e13.1 &&& 1), e13.2)))) else (fX4_rule (1 : Int32) (ish (1 : Int32) b6.2.1) (ish (1 : Int32) b6.2.1) σ).bind (fun e14 => some ((e14.1 &&& 1), e14.2)) else (fX4_rule (0 : Int32) (ish (1 : Int32) b6.1) (0 : Int32) σ).bind (fun e15 => some ((e15.1 &&& 1), e15.2))))) = some res := hf
  refine m_start (by decide) rfl (Nat.le_of_ble_eq_true rfl) ?_
  intro p e s m args below meth c S hR hS ls hl
  obtain ⟨hx, hb, hml, hown, hts⟩ := S.1.1
  have hl : lv_has ls 7 [(0, .ref (mo G))] := hl
  refine lv_iconst (v := -1) hx hb dX4_rules_0 (by decide) ?_
  refine lv_istore_n (lv' := [(1, .int (-1 : Int32)), (0, .ref (mo G))]) hx hb dX4_rules_1 rfl hl (by decide) rfl (fun ls hl => ?_)
  refine lv_iconst (v := -1) hx hb dX4_rules_2 (by decide) ?_
  refine lv_istore_n (lv' := [(2, .int (-1 : Int32)), (1, .int (-1 : Int32)), (0, .ref (mo G))]) hx hb dX4_rules_3 rfl hl (by decide) rfl (fun ls hl => ?_)
  refine lv_iconst (v := -1) hx hb dX4_rules_4 (by decide) ?_
  refine lv_istore_n (lv' := [(3, .int (-1 : Int32)), (2, .int (-1 : Int32)), (1, .int (-1 : Int32)), (0, .ref (mo G))]) hx hb dX4_rules_5 rfl hl (by decide) rfl (fun ls hl => ?_)
  refine lv_aload_n hx hb dX4_rules_6 rfl (lv_at hl 3 rfl) ?_
  refine m_geti (k := 0) S hR (by decide) (by decide) q2526 dX4_rules_7 ?_
  refine lv_iconst (v := 1) hx hb dX4_rules_10 (by decide) ?_
  refine lv_isub hx hb dX4_rules_11 ?_
  refine k_bind hf (fun v1 hv1 hf => ?_)
  refine m_nmi hv1 ?_
  refine lv_istore (lv' := [(4, .int v1), (3, .int (-1 : Int32)), (2, .int (-1 : Int32)), (1, .int (-1 : Int32)), (0, .ref (mo G))]) hx hb dX4_rules_12 hl (by decide) rfl (fun ls hl => ?_)
  refine k_bind hf (fun b6 hb6 hf => ?_)
  refine wLX4_rules_14 S hb6 ?_ _ _ _ hR hS (lv_sub (l' := [(0, .ref (mo G)), (1, .int (-1 : Int32)), (2, .int (-1 : Int32)), (3, .int (-1 : Int32)), (4, .int v1)]) hl [4, 3, 2, 1, 0] rfl)
  · intro b eb; subst eb; intro H locs ls hR hS hl
    refine lv_iload_n hx hb dX4_rules_93 rfl (lv_at hl 1 rfl) ?_
    refine lv_iconst (v := -1) hx hb dX4_rules_94 (by decide) ?_
    refine lv_icmp_eq (tgt := 108) hx hb dX4_rules_95 (by decide) (fun c_95 => ?_) (fun c_95 => ?_)
    · replace hf := o_t hf c_95
      refine lv_iload_n hx hb dX4_rules_108 rfl (lv_at hl 2 rfl) ?_
      refine lv_iconst (v := -1) hx hb dX4_rules_109 (by decide) ?_
      refine lv_icmp_eq (tgt := 125) hx hb dX4_rules_110 (by decide) (fun c_110 => ?_) (fun c_110 => ?_)
      · replace hf := o_t hf c_110
        refine lv_iload_n hx hb dX4_rules_125 rfl (lv_at hl 3 rfl) ?_
        refine lv_iconst (v := -1) hx hb dX4_rules_126 (by decide) ?_
        refine lv_icmp_eq (tgt := 162) hx hb dX4_rules_127 (by decide) (fun c_127 => ?_) (fun c_127 => ?_)
        · replace hf := o_t hf c_127
          refine lv_aload_n hx hb dX4_rules_162 rfl (lv_at hl 0 rfl) ?_
          refine lv_aload_n hx hb dX4_rules_163 rfl (lv_at hl 0 rfl) ?_
          refine m_geti (k := 9) S hR (by decide) (by decide) q2535 dX4_rules_164 ?_
          refine k_bind hf (fun e7 he7 hf => ?_)
          refine m_call (As := [.int (σ.1 9)]) (rest := []) S hR hS (met_X4_laysHalves he7) wi_X4_laysHalves rfl q2794 ⟨rfl, rfl⟩ ⟨Nat.le_of_ble_eq_true rfl, Nat.le_of_ble_eq_true rfl⟩ rfl hl.1 rfl (Nat.le_of_ble_eq_true rfl) dX4_rules_167 (fun H locs hR hS => ?_)
          refine lv_istore (lv' := [(4, .int e7.1), (0, .ref (mo G)), (1, .int b6.1), (2, .int b6.2.1), (3, .int b6.2.2)]) hx hb dX4_rules_170 hl (by decide) rfl (fun ls hl => ?_)
          refine lv_aload_n hx hb dX4_rules_172 rfl (lv_at hl 1 rfl) ?_
          refine lv_iconst (v := 0) hx hb dX4_rules_173 (by decide) ?_
          refine lv_aload_n hx hb dX4_rules_174 rfl (lv_at hl 1 rfl) ?_
          refine m_geti (k := 9) S hR (by decide) (by decide) q2535 dX4_rules_175 ?_
          refine k_bind hf (fun v8 hv8 hf => ?_)
          refine m_call (As := [.int (0 : Int32), .int (e7.2.1 9)]) (rest := []) S hR hS (met_X4_halvesWith hv8) wi_X4_halvesWith rfl q2814 ⟨rfl, rfl⟩ ⟨Nat.le_of_ble_eq_true rfl, Nat.le_of_ble_eq_true rfl⟩ rfl hl.1 rfl (Nat.le_of_ble_eq_true rfl) dX4_rules_178 (fun H locs hR hS => ?_)
          refine lv_istore (lv' := [(5, .int v8), (4, .int e7.1), (0, .ref (mo G)), (1, .int b6.1), (2, .int b6.2.1), (3, .int b6.2.2)]) hx hb dX4_rules_181 hl (by decide) rfl (fun ls hl => ?_)
          refine lv_aload_n hx hb dX4_rules_183 rfl (lv_at hl 2 rfl) ?_
          refine lv_iconst (v := 2) hx hb dX4_rules_184 (by decide) ?_
          refine lv_aload_n hx hb dX4_rules_185 rfl (lv_at hl 2 rfl) ?_
          refine m_geti (k := 9) S hR (by decide) (by decide) q2535 dX4_rules_186 ?_
          refine k_bind hf (fun v9 hv9 hf => ?_)
          refine m_call (As := [.int (2 : Int32), .int (e7.2.1 9)]) (rest := []) S hR hS (met_X4_halvesWith hv9) wi_X4_halvesWith rfl q2814 ⟨rfl, rfl⟩ ⟨Nat.le_of_ble_eq_true rfl, Nat.le_of_ble_eq_true rfl⟩ rfl hl.1 rfl (Nat.le_of_ble_eq_true rfl) dX4_rules_189 (fun H locs hR hS => ?_)
          refine lv_istore (lv' := [(6, .int v9), (5, .int v8), (4, .int e7.1), (0, .ref (mo G)), (1, .int b6.1), (2, .int b6.2.1), (3, .int b6.2.2)]) hx hb dX4_rules_192 hl (by decide) rfl (fun ls hl => ?_)
          refine lv_iload hx hb dX4_rules_194 (lv_at hl 1 rfl) ?_
          refine lv_if_eq (tgt := 218) hx hb dX4_rules_196 (by decide) (fun c_196 => ?_) (fun c_196 => ?_)
          · replace hf := o_t hf c_196
            refine lv_iconst (v := 0) hx hb dX4_rules_218 (by decide) ?_
            obtain rfl := Option.some.inj hf
            exact m_iret S hR hS rfl dX4_rules_219
          · replace hf := o_f hf c_196
            refine lv_aload_n hx hb dX4_rules_199 rfl (lv_at hl 3 rfl) ?_
            refine lv_iconst (v := 3) hx hb dX4_rules_200 (by decide) ?_
            refine lv_iload hx hb dX4_rules_201 (lv_at hl 1 rfl) ?_
            refine lv_iload hx hb dX4_rules_203 (lv_at hl 0 rfl) ?_
            refine lv_ior hx hb dX4_rules_205 ?_
            refine lv_iload hx hb dX4_rules_206 (lv_at hl 0 rfl) ?_
            refine k_bind hf (fun e10 he10 hf => ?_)
            refine m_call (As := [.int (3 : Int32), .int (v8 ||| v9), .int v9]) (rest := []) S hR hS (met_X4_rule he10) wi_X4_rule rfl q2873 ⟨rfl, rfl⟩ ⟨Nat.le_of_ble_eq_true rfl, Nat.le_of_ble_eq_true rfl⟩ rfl hl.1 rfl (Nat.le_of_ble_eq_true rfl) dX4_rules_208 (fun H locs hR hS => ?_)
            refine lv_if_eq (tgt := 218) hx hb dX4_rules_211 (by decide) (fun c_211 => ?_) (fun c_211 => ?_)
            · replace hf := o_t hf c_211
              refine lv_iconst (v := 0) hx hb dX4_rules_218 (by decide) ?_
              obtain rfl := Option.some.inj hf
              exact m_iret S hR hS rfl dX4_rules_219
            · replace hf := o_f hf c_211
              refine lv_iconst (v := 1) hx hb dX4_rules_214 (by decide) ?_
              refine lv_goto (tgt := 219) hx hb dX4_rules_215 (by decide) ?_
              obtain rfl := Option.some.inj hf
              exact m_iret S hR hS rfl dX4_rules_219
        · replace hf := o_f hf c_127
          refine lv_aload_n hx hb dX4_rules_130 rfl (lv_at hl 0 rfl) ?_
          refine lv_iconst (v := 2) hx hb dX4_rules_131 (by decide) ?_
          refine lv_iconst (v := 1) hx hb dX4_rules_132 (by decide) ?_
          refine lv_iload_n hx hb dX4_rules_133 rfl (lv_at hl 3 rfl) ?_
          refine lv_ishl hx hb dX4_rules_134 ?_
          refine lv_aload_n hx hb dX4_rules_135 rfl (lv_at hl 0 rfl) ?_
          refine m_geta (k := 4) S hR (by decide) (by decide) q2530 dX4_rules_136 ?_
          refine lv_iload_n hx hb dX4_rules_139 rfl (lv_at hl 3 rfl) ?_
          refine k_bind hf (fun v11 hv11 hf => ?_)
          refine m_iald S hR hv11 dX4_rules_140 ?_
          refine lv_aload_n hx hb dX4_rules_141 rfl (lv_at hl 0 rfl) ?_
          refine m_geti (k := 9) S hR (by decide) (by decide) q2535 dX4_rules_142 ?_
          refine lv_iand hx hb dX4_rules_145 ?_
          refine lv_ior hx hb dX4_rules_146 ?_
          refine lv_aload_n hx hb dX4_rules_147 rfl (lv_at hl 0 rfl) ?_
          refine m_geta (k := 4) S hR (by decide) (by decide) q2530 dX4_rules_148 ?_
          refine lv_iload_n hx hb dX4_rules_151 rfl (lv_at hl 3 rfl) ?_
          refine k_bind hf (fun v12 hv12 hf => ?_)
          refine m_iald S hR hv12 dX4_rules_152 ?_
          refine lv_aload_n hx hb dX4_rules_153 rfl (lv_at hl 0 rfl) ?_
          refine m_geti (k := 9) S hR (by decide) (by decide) q2535 dX4_rules_154 ?_
          refine lv_iand hx hb dX4_rules_157 ?_
          refine k_bind hf (fun e13 he13 hf => ?_)
          refine m_call (As := [.int (2 : Int32), .int ((ish (1 : Int32) b6.2.2) ||| (v11 &&& (σ.1 9))), .int (v12 &&& (σ.1 9))]) (rest := []) S hR hS (met_X4_rule he13) wi_X4_rule rfl q2873 ⟨rfl, rfl⟩ ⟨Nat.le_of_ble_eq_true rfl, Nat.le_of_ble_eq_true rfl⟩ rfl hl.1 rfl (Nat.le_of_ble_eq_true rfl) dX4_rules_158 (fun H locs hR hS => ?_)
          obtain rfl := Option.some.inj hf
          exact m_iret S hR hS rfl dX4_rules_161
      · replace hf := o_f hf c_110
        refine lv_aload_n hx hb dX4_rules_113 rfl (lv_at hl 0 rfl) ?_
        refine lv_iconst (v := 1) hx hb dX4_rules_114 (by decide) ?_
        refine lv_iconst (v := 1) hx hb dX4_rules_115 (by decide) ?_
        refine lv_iload_n hx hb dX4_rules_116 rfl (lv_at hl 2 rfl) ?_
        refine lv_ishl hx hb dX4_rules_117 ?_
        refine lv_iconst (v := 1) hx hb dX4_rules_118 (by decide) ?_
        refine lv_iload_n hx hb dX4_rules_119 rfl (lv_at hl 2 rfl) ?_
        refine lv_ishl hx hb dX4_rules_120 ?_
        refine k_bind hf (fun e14 he14 hf => ?_)
        refine m_call (As := [.int (1 : Int32), .int (ish (1 : Int32) b6.2.1), .int (ish (1 : Int32) b6.2.1)]) (rest := []) S hR hS (met_X4_rule he14) wi_X4_rule rfl q2873 ⟨rfl, rfl⟩ ⟨Nat.le_of_ble_eq_true rfl, Nat.le_of_ble_eq_true rfl⟩ rfl hl.1 rfl (Nat.le_of_ble_eq_true rfl) dX4_rules_121 (fun H locs hR hS => ?_)
        obtain rfl := Option.some.inj hf
        exact m_iret S hR hS rfl dX4_rules_124
    · replace hf := o_f hf c_95
      refine lv_aload_n hx hb dX4_rules_98 rfl (lv_at hl 0 rfl) ?_
      refine lv_iconst (v := 0) hx hb dX4_rules_99 (by decide) ?_
      refine lv_iconst (v := 1) hx hb dX4_rules_100 (by decide) ?_
      refine lv_iload_n hx hb dX4_rules_101 rfl (lv_at hl 1 rfl) ?_
      refine lv_ishl hx hb dX4_rules_102 ?_
      refine lv_iconst (v := 0) hx hb dX4_rules_103 (by decide) ?_
      refine k_bind hf (fun e15 he15 hf => ?_)
      refine m_call (As := [.int (0 : Int32), .int (ish (1 : Int32) b6.1), .int (0 : Int32)]) (rest := []) S hR hS (met_X4_rule he15) wi_X4_rule rfl q2873 ⟨rfl, rfl⟩ ⟨Nat.le_of_ble_eq_true rfl, Nat.le_of_ble_eq_true rfl⟩ rfl hl.1 rfl (Nat.le_of_ble_eq_true rfl) dX4_rules_104 (fun H locs hR hS => ?_)
      obtain rfl := Option.some.inj hf
      exact m_iret S hR hS rfl dX4_rules_107
