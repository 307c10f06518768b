/-! the reference, walked: dear sized bare gcd share -/
noncomputable def JX4_dear_90 (y1 : Int32) (y4 : Int32) (y5 : Int32) (z0 : Int32) (σ : mS) : Option ((Int32 × Int32 × Int32 × Int32) ⊕ (Int32 × Int32 × Int32)) :=
  (fX4_costs y5 σ).bind (fun v5 => some (Sum.inl (v5, z0, y4, y5 + (1 : Int32))))
noncomputable def JX4_dear_72 (y1 : Int32) (y2 : Int32) (y3 : Int32) (y5 : Int32) (z0 : Int32) (σ : mS) : Option ((Int32 × Int32 × Int32 × Int32) ⊕ (Int32 × Int32 × Int32)) :=
  (fX4_costs y5 σ).bind (fun v4 => if y2 ≤ v4 then JX4_dear_90 y1 z0 y5 y3 σ else JX4_dear_90 y1 z0 y5 y5 σ)
noncomputable def LX4_dear_23 (y1 : Int32) (σ : mS) (q : Int32 × Int32 × Int32 × Int32) : Option ((Int32 × Int32 × Int32 × Int32) ⊕ (Int32 × Int32 × Int32)) :=
  if (fX4_all σ) < q.2.2.2 then some (Sum.inr (q.1, q.2.1, q.2.2.1)) else (fX4_covers q.2.2.2 σ).bind (fun v1 => if v1 = (0 : Int32) then some (Sum.inl (q.1, q.2.1, q.2.2.1, q.2.2.2 + (1 : Int32))) else (fX4_costs q.2.2.2 σ).bind (fun v2 => if v2 ≤ q.1 then (fX4_costs q.2.2.2 σ).bind (fun v3 => if q.1 ≤ v3 then JX4_dear_72 y1 q.1 q.2.1 q.2.2.2 (q.2.2.1 + (1 : Int32)) σ else JX4_dear_72 y1 q.1 q.2.1 q.2.2.2 (1 : Int32) σ) else some (Sum.inl (q.1, q.2.1, q.2.2.1, q.2.2.2 + (1 : Int32)))))
noncomputable def fX4_dear (x1 : Int32) (σ : mS) : Option Int32 :=
  if (fX4_in x1 (0 : Int32) (2 : Int32)) = (0 : Int32) then some (-2 : Int32) else (lpw (LX4_dear_23 x1 σ) ((1000000 : Int32), (-1 : Int32), (0 : Int32), (0 : Int32))).bind (fun b6 => if x1 = (0 : Int32) then some b6.1 else if x1 = (1 : Int32) then some b6.2.1 else some b6.2.2)
theorem wi_X4_dear : wInfV yX4_dear cX4_dear 6 (Option.some Jvm.ClassFile.FieldType.int) 1 := ⟨q2770, q2771, q116, q2772, (by decide +kernel), (by decide +kernel), (by decide +kernel)⟩
set_option maxHeartbeats 4000000 in
set_option maxRecDepth 100000 in
theorem wJX4_dear_90 {l : Launch} {G : mG} {p : Program} {e : Env} {s : State} {m : MethodId} {args : Array Value} {below : List Frame} {meth : Method} {c : Code} {Q : State → Prop} {y1 : Int32} {y4 : Int32} {y5 : Int32} {z0 : Int32} {σ : mS} {res : (Int32 × Int32 × Int32 × Int32) ⊕ (Int32 × Int32 × Int32)} (S : mSt G p m c cX4_dear 6 s args meth (Option.some Jvm.ClassFile.FieldType.int)) (hf : JX4_dear_90 y1 y4 y5 z0 σ = some res) (hK : ∀ q, res = Sum.inl q → (∀ (H : Heap) (locs : List Loc) (ls : Array Slot), mR G σ H → va_S (mA G) s.heap H locs → lv_has ls 6 [(0, .ref (mo G)), (1, .int y1), (2, .int q.1), (3, .int q.2.1), (4, .int q.2.2.1), (5, .int q.2.2.2)] → W p l e (mRm 3 68) s m args below meth c H locs 0 0 Q (F0 m 23 ls []))) (hE104 : ∀ b, res = Sum.inr b → (∀ (H : Heap) (locs : List Loc) (ls : Array Slot), mR G σ H → va_S (mA G) s.heap H locs → lv_has ls 6 [(0, .ref (mo G)), (1, .int y1), (2, .int b.1), (3, .int b.2.1), (4, .int b.2.2)] → W p l e (mRm 3 68) s m args below meth c H locs 0 0 Q (F0 m 104 ls []))) : ∀ (H : Heap) (locs : List Loc) (ls : Array Slot), mR G σ H → va_S (mA G) s.heap H locs → lv_has ls 6 [(0, .ref (mo G)), (1, .int y1), (4, .int y4), (5, .int y5)] → W p l e (mRm 3 68) s m args below meth c H locs 0 0 Q (F0 m 90 ls [.int z0]) := by
  replace hf : ((fX4_costs y5 σ).bind (fun v5 => some (Sum.inl (v5, z0, y4, y5 + (1 : Int32))))) = some res := hf
  obtain ⟨hx, hb, hml, hown, hts⟩ := S.1.1
  intro H locs ls hR hS hl
  refine lv_istore_n (lv' := [(3, .int z0), (0, .ref (mo G)), (1, .int y1), (4, .int y4), (5, .int y5)]) hx hb dX4_dear_90 rfl hl (by decide) rfl (fun ls hl => ?_)
  refine lv_aload_n hx hb dX4_dear_91 rfl (lv_at hl 1 rfl) ?_
  refine lv_iload hx hb dX4_dear_92 (lv_at hl 4 rfl) ?_
  refine k_bind hf (fun v5 hv5 hf => ?_)
  refine m_call (As := [.int y5]) (rest := []) S hR hS (met_X4_costs hv5) wi_X4_costs rfl q2757 ⟨rfl, rfl⟩ ⟨Nat.le_of_ble_eq_true rfl, Nat.le_of_ble_eq_true rfl⟩ rfl hl.1 rfl (Nat.le_of_ble_eq_true rfl) dX4_dear_94 (fun H locs hR hS => ?_)
  refine lv_istore_n (lv' := [(2, .int v5), (3, .int z0), (0, .ref (mo G)), (1, .int y1), (4, .int y4), (5, .int y5)]) hx hb dX4_dear_97 rfl hl (by decide) rfl (fun ls hl => ?_)
  refine lv_iinc (lv' := [(5, .int (y5 + (1 : Int32))), (2, .int v5), (3, .int z0), (0, .ref (mo G)), (1, .int y1), (4, .int y4)]) hx hb dX4_dear_98 hl (k := 5) rfl (m_inc (by decide)) (by decide) rfl (fun ls hl => ?_)
  refine lv_goto (tgt := 23) hx hb dX4_dear_101 (by decide) ?_
  exact hK _ (Option.some.inj hf).symm _ _ _ hR hS (lv_sub (l' := [(0, .ref (mo G)), (1, .int y1), (2, .int v5), (3, .int z0), (4, .int y4), (5, .int (y5 + (1 : Int32)))]) hl [3, 4, 1, 2, 5, 0] rfl)
set_option maxHeartbeats 4000000 in
set_option maxRecDepth 100000 in
theorem wJX4_dear_72 {l : Launch} {G : mG} {p : Program} {e : Env} {s : State} {m : MethodId} {args : Array Value} {below : List Frame} {meth : Method} {c : Code} {Q : State → Prop} {y1 : Int32} {y2 : Int32} {y3 : Int32} {y5 : Int32} {z0 : Int32} {σ : mS} {res : (Int32 × Int32 × Int32 × Int32) ⊕ (Int32 × Int32 × Int32)} (S : mSt G p m c cX4_dear 6 s args meth (Option.some Jvm.ClassFile.FieldType.int)) (hf : JX4_dear_72 y1 y2 y3 y5 z0 σ = some res) (hK : ∀ q, res = Sum.inl q → (∀ (H : Heap) (locs : List Loc) (ls : Array Slot), mR G σ H → va_S (mA G) s.heap H locs → lv_has ls 6 [(0, .ref (mo G)), (1, .int y1), (2, .int q.1), (3, .int q.2.1), (4, .int q.2.2.1), (5, .int q.2.2.2)] → W p l e (mRm 3 68) s m args below meth c H locs 0 0 Q (F0 m 23 ls []))) (hE104 : ∀ b, res = Sum.inr b → (∀ (H : Heap) (locs : List Loc) (ls : Array Slot), mR G σ H → va_S (mA G) s.heap H locs → lv_has ls 6 [(0, .ref (mo G)), (1, .int y1), (2, .int b.1), (3, .int b.2.1), (4, .int b.2.2)] → W p l e (mRm 3 68) s m args below meth c H locs 0 0 Q (F0 m 104 ls []))) : ∀ (H : Heap) (locs : List Loc) (ls : Array Slot), mR G σ H → va_S (mA G) s.heap H locs → lv_has ls 6 [(0, .ref (mo G)), (1, .int y1), (2, .int y2), (3, .int y3), (5, .int y5)] → W p l e (mRm 3 68) s m args below meth c H locs 0 0 Q (F0 m 72 ls [.int z0]) := by
  replace hf : ((fX4_costs y5 σ).bind (fun v4 => if y2 ≤ v4 then JX4_dear_90 y1 z0 y5 y3 σ else JX4_dear_90 y1 z0 y5 y5 σ)) = some res := hf
  obtain ⟨hx, hb, hml, hown, hts⟩ := S.1.1
  intro H locs ls hR hS hl
  refine lv_istore (lv' := [(4, .int z0), (0, .ref (mo G)), (1, .int y1), (2, .int y2), (3, .int y3), (5, .int y5)]) hx hb dX4_dear_72 hl (by decide) rfl (fun ls hl => ?_)
  refine lv_aload_n hx hb dX4_dear_74 rfl (lv_at hl 1 rfl) ?_
  refine lv_iload hx hb dX4_dear_75 (lv_at hl 5 rfl) ?_
  refine k_bind hf (fun v4 hv4 hf => ?_)
  refine m_call (As := [.int y5]) (rest := []) S hR hS (met_X4_costs hv4) wi_X4_costs rfl q2757 ⟨rfl, rfl⟩ ⟨Nat.le_of_ble_eq_true rfl, Nat.le_of_ble_eq_true rfl⟩ rfl hl.1 rfl (Nat.le_of_ble_eq_true rfl) dX4_dear_77 (fun H locs hR hS => ?_)
  refine lv_iload_n hx hb dX4_dear_80 rfl (lv_at hl 3 rfl) ?_
  refine lv_icmp_ge (tgt := 89) hx hb dX4_dear_81 (by decide) (fun c_81 => ?_) (fun c_81 => ?_)
  · replace hf := o_t hf c_81
    refine lv_iload_n hx hb dX4_dear_89 rfl (lv_at hl 4 rfl) ?_
    exact wJX4_dear_90 S hf hK hE104 _ _ _ hR hS (lv_sub (l' := [(0, .ref (mo G)), (1, .int y1), (4, .int z0), (5, .int y5)]) hl [1, 2, 0, 5] rfl)
  · replace hf := o_f hf c_81
    refine lv_iload hx hb dX4_dear_84 (lv_at hl 5 rfl) ?_
    refine lv_goto (tgt := 90) hx hb dX4_dear_86 (by decide) ?_
    exact wJX4_dear_90 S hf hK hE104 _ _ _ hR hS (lv_sub (l' := [(0, .ref (mo G)), (1, .int y1), (4, .int z0), (5, .int y5)]) hl [1, 2, 0, 5] rfl)
set_option maxHeartbeats 4000000 in
set_option maxRecDepth 100000 in
theorem wbLX4_dear_23 {l : Launch} {G : mG} {p : Program} {e : Env} {s : State} {m : MethodId} {args : Array Value} {below : List Frame} {meth : Method} {c : Code} {Q : State → Prop} {y1 : Int32} {σ : mS} {q : Int32 × Int32 × Int32 × Int32} {res : (Int32 × Int32 × Int32 × Int32) ⊕ (Int32 × Int32 × Int32)} (S : mSt G p m c cX4_dear 6 s args meth (Option.some Jvm.ClassFile.FieldType.int)) (hf : LX4_dear_23 y1 σ q = some res) (hK : ∀ q, res = Sum.inl q → (∀ (H : Heap) (locs : List Loc) (ls : Array Slot), mR G σ H → va_S (mA G) s.heap H locs → lv_has ls 6 [(0, .ref (mo G)), (1, .int y1), (2, .int q.1), (3, .int q.2.1), (4, .int q.2.2.1), (5, .int q.2.2.2)] → W p l e (mRm 3 68) s m args below meth c H locs 0 0 Q (F0 m 23 ls []))) (hE104 : ∀ b, res = Sum.inr b → (∀ (H : Heap) (locs : List Loc) (ls : Array Slot), mR G σ H → va_S (mA G) s.heap H locs → lv_has ls 6 [(0, .ref (mo G)), (1, .int y1), (2, .int b.1), (3, .int b.2.1), (4, .int b.2.2)] → W p l e (mRm 3 68) s m args below meth c H locs 0 0 Q (F0 m 104 ls []))) : (∀ (H : Heap) (locs : List Loc) (ls : Array Slot), mR G σ H → va_S (mA G) s.heap H locs → lv_has ls 6 [(0, .ref (mo G)), (1, .int y1), (2, .int q.1), (3, .int q.2.1), (4, .int q.2.2.1), (5, .int q.2.2.2)] → W p l e (mRm 3 68) s m args below meth c H locs 0 0 Q (F0 m 23 ls [])) := by
  replace hf : (if (fX4_all σ) < q.2.2.2 then some (Sum.inr (q.1, q.2.1, q.2.2.1)) else (fX4_covers q.2.2.2 σ).bind (fun v1 => if v1 = (0 : Int32) then some (Sum.inl (q.1, q.2.1, q.2.2.1, q.2.2.2 + (1 : Int32))) else (fX4_costs q.2.2.2 σ).bind (fun v2 => if v2 ≤ q.1 then (fX4_costs q.2.2.2 σ).bind (fun v3 => if q.1 ≤ v3 then JX4_dear_72 y1 q.1 q.2.1 q.2.2.2 (q.2.2.1 + (1 : Int32)) σ else JX4_dear_72 y1 q.1 q.2.1 q.2.2.2 (1 : Int32) σ) else some (Sum.inl (q.1, q.2.1, q.2.2.1, q.2.2.2 + (1 : Int32)))))) = some res := hf
  obtain ⟨hx, hb, hml, hown, hts⟩ := S.1.1
  intro H locs ls hR hS hl
  refine lv_iload hx hb dX4_dear_23 (lv_at hl 5 rfl) ?_
  refine lv_aload_n hx hb dX4_dear_25 rfl (lv_at hl 0 rfl) ?_
  refine m_call (As := []) (rest := [.int q.2.2.2]) S hR hS (met_X4_all rfl) wi_X4_all rfl q2738 ⟨rfl, rfl⟩ ⟨Nat.le_of_ble_eq_true rfl, Nat.le_of_ble_eq_true rfl⟩ rfl hl.1 rfl (Nat.le_of_ble_eq_true rfl) dX4_dear_26 (fun H locs hR hS => ?_)
  refine lv_icmp_gt (tgt := 104) hx hb dX4_dear_29 (by decide) (fun c_29 => ?_) (fun c_29 => ?_)
  · replace hf := o_t hf c_29
    exact hE104 _ (Option.some.inj hf).symm _ _ _ hR hS (lv_sub (l' := [(0, .ref (mo G)), (1, .int y1), (2, .int q.1), (3, .int q.2.1), (4, .int q.2.2.1)]) hl [0, 1, 2, 3, 4] rfl)
  · replace hf := o_f hf c_29
    refine lv_aload_n hx hb dX4_dear_32 rfl (lv_at hl 0 rfl) ?_
    refine lv_iload hx hb dX4_dear_33 (lv_at hl 5 rfl) ?_
    refine k_bind hf (fun v1 hv1 hf => ?_)
    refine m_call (As := [.int q.2.2.2]) (rest := []) S hR hS (met_X4_covers hv1) wi_X4_covers rfl q2746 ⟨rfl, rfl⟩ ⟨Nat.le_of_ble_eq_true rfl, Nat.le_of_ble_eq_true rfl⟩ rfl hl.1 rfl (Nat.le_of_ble_eq_true rfl) dX4_dear_35 (fun H locs hR hS => ?_)
    refine lv_if_eq (tgt := 98) hx hb dX4_dear_38 (by decide) (fun c_38 => ?_) (fun c_38 => ?_)
    · replace hf := o_t hf c_38
      refine lv_iinc (lv' := [(5, .int (q.2.2.2 + (1 : Int32))), (0, .ref (mo G)), (1, .int y1), (2, .int q.1), (3, .int q.2.1), (4, .int q.2.2.1)]) hx hb dX4_dear_98 hl (k := 5) rfl (m_inc (by decide)) (by decide) rfl (fun ls hl => ?_)
      refine lv_goto (tgt := 23) hx hb dX4_dear_101 (by decide) ?_
      exact hK _ (Option.some.inj hf).symm _ _ _ hR hS (lv_sub (l' := [(0, .ref (mo G)), (1, .int y1), (2, .int q.1), (3, .int q.2.1), (4, .int q.2.2.1), (5, .int (q.2.2.2 + (1 : Int32)))]) hl [1, 2, 3, 4, 5, 0] rfl)
    · replace hf := o_f hf c_38
      refine lv_aload_n hx hb dX4_dear_41 rfl (lv_at hl 0 rfl) ?_
      refine lv_iload hx hb dX4_dear_42 (lv_at hl 5 rfl) ?_
      refine k_bind hf (fun v2 hv2 hf => ?_)
      refine m_call (As := [.int q.2.2.2]) (rest := []) S hR hS (met_X4_costs hv2) wi_X4_costs rfl q2757 ⟨rfl, rfl⟩ ⟨Nat.le_of_ble_eq_true rfl, Nat.le_of_ble_eq_true rfl⟩ rfl hl.1 rfl (Nat.le_of_ble_eq_true rfl) dX4_dear_44 (fun H locs hR hS => ?_)
      refine lv_iload_n hx hb dX4_dear_47 rfl (lv_at hl 2 rfl) ?_
      refine lv_icmp_le (tgt := 54) hx hb dX4_dear_48 (by decide) (fun c_48 => ?_) (fun c_48 => ?_)
      · replace hf := o_t hf c_48
        refine lv_aload_n hx hb dX4_dear_54 rfl (lv_at hl 0 rfl) ?_
        refine lv_iload hx hb dX4_dear_55 (lv_at hl 5 rfl) ?_
        refine k_bind hf (fun v3 hv3 hf => ?_)
        refine m_call (As := [.int q.2.2.2]) (rest := []) S hR hS (met_X4_costs hv3) wi_X4_costs rfl q2757 ⟨rfl, rfl⟩ ⟨Nat.le_of_ble_eq_true rfl, Nat.le_of_ble_eq_true rfl⟩ rfl hl.1 rfl (Nat.le_of_ble_eq_true rfl) dX4_dear_57 (fun H locs hR hS => ?_)
        refine lv_iload_n hx hb dX4_dear_60 rfl (lv_at hl 2 rfl) ?_
        refine lv_icmp_ge (tgt := 68) hx hb dX4_dear_61 (by decide) (fun c_61 => ?_) (fun c_61 => ?_)
        · replace hf := o_t hf c_61
          refine lv_iload hx hb dX4_dear_68 (lv_at hl 4 rfl) ?_
          refine lv_iconst (v := 1) hx hb dX4_dear_70 (by decide) ?_
          refine lv_iadd hx hb dX4_dear_71 ?_
          exact wJX4_dear_72 S hf hK hE104 _ _ _ hR hS (lv_sub (l' := [(0, .ref (mo G)), (1, .int y1), (2, .int q.1), (3, .int q.2.1), (5, .int q.2.2.2)]) hl [0, 1, 2, 3, 5] rfl)
        · replace hf := o_f hf c_61
          refine lv_iconst (v := 1) hx hb dX4_dear_64 (by decide) ?_
          refine lv_goto (tgt := 72) hx hb dX4_dear_65 (by decide) ?_
          exact wJX4_dear_72 S hf hK hE104 _ _ _ hR hS (lv_sub (l' := [(0, .ref (mo G)), (1, .int y1), (2, .int q.1), (3, .int q.2.1), (5, .int q.2.2.2)]) hl [0, 1, 2, 3, 5] rfl)
      · replace hf := o_f hf c_48
        refine lv_goto (tgt := 98) hx hb dX4_dear_51 (by decide) ?_
        refine lv_iinc (lv' := [(5, .int (q.2.2.2 + (1 : Int32))), (0, .ref (mo G)), (1, .int y1), (2, .int q.1), (3, .int q.2.1), (4, .int q.2.2.1)]) hx hb dX4_dear_98 hl (k := 5) rfl (m_inc (by decide)) (by decide) rfl (fun ls hl => ?_)
        refine lv_goto (tgt := 23) hx hb dX4_dear_101 (by decide) ?_
        exact hK _ (Option.some.inj hf).symm _ _ _ hR hS (lv_sub (l' := [(0, .ref (mo G)), (1, .int y1), (2, .int q.1), (3, .int q.2.1), (4, .int q.2.2.1), (5, .int (q.2.2.2 + (1 : Int32)))]) hl [1, 2, 3, 4, 5, 0] rfl)
set_option maxHeartbeats 4000000 in
set_option maxRecDepth 100000 in
theorem wLX4_dear_23 {l : Launch} {G : mG} {p : Program} {e : Env} {s : State} {m : MethodId} {args : Array Value} {below : List Frame} {meth : Method} {c : Code} {Q : State → Prop} {y1 : Int32} {σ : mS} {q : Int32 × Int32 × Int32 × Int32} {res : Int32 × Int32 × Int32} (S : mSt G p m c cX4_dear 6 s args meth (Option.some Jvm.ClassFile.FieldType.int)) (h : lpw (LX4_dear_23 y1 σ) q = some res) (hE104 : ∀ b, res = b → (∀ (H : Heap) (locs : List Loc) (ls : Array Slot), mR G σ H → va_S (mA G) s.heap H locs → lv_has ls 6 [(0, .ref (mo G)), (1, .int y1), (2, .int b.1), (3, .int b.2.1), (4, .int b.2.2)] → W p l e (mRm 3 68) s m args below meth c H locs 0 0 Q (F0 m 104 ls []))) : (∀ (H : Heap) (locs : List Loc) (ls : Array Slot), mR G σ H → va_S (mA G) s.heap H locs → lv_has ls 6 [(0, .ref (mo G)), (1, .int y1), (2, .int q.1), (3, .int q.2.1), (4, .int q.2.2.1), (5, .int q.2.2.2)] → W p l e (mRm 3 68) s m args below meth c H locs 0 0 Q (F0 m 23 ls [])) :=
  lpw_go _ (fun q => (∀ (H : Heap) (locs : List Loc) (ls : Array Slot), mR G σ H → va_S (mA G) s.heap H locs → lv_has ls 6 [(0, .ref (mo G)), (1, .int y1), (2, .int q.1), (3, .int q.2.1), (4, .int q.2.2.1), (5, .int q.2.2.2)] → W p l e (mRm 3 68) s m args below meth c H locs 0 0 Q (F0 m 23 ls []))) (fun b0 => (∀ b, b0 = b → (∀ (H : Heap) (locs : List Loc) (ls : Array Slot), mR G σ H → va_S (mA G) s.heap H locs → lv_has ls 6 [(0, .ref (mo G)), (1, .int y1), (2, .int b.1), (3, .int b.2.1), (4, .int b.2.2)] → W p l e (mRm 3 68) s m args below meth c H locs 0 0 Q (F0 m 104 ls [])))) (fun q x hf hK hX => wbLX4_dear_23 S hf hK (fun b eb => (hX _ eb) b rfl)) q res h hE104
set_option maxHeartbeats 4000000 in
set_option maxRecDepth 100000 in
theorem met_X4_dear {l : Launch} {G : mG} {x1 : Int32} {σ : mS} {res : Int32} (hf : fX4_dear x1 σ = some res) : mMet l yX4_dear cX4_dear 6 (Option.some Jvm.ClassFile.FieldType.int) (mRm 3 68) G [.ref (mo G), .int x1] σ (some (.int res)) σ := by
  replace hf : (if (fX4_in x1 (0 : Int32) (2 : Int32)) = (0 : Int32) then some (-2 : Int32) else (lpw (LX4_dear_23 x1 σ) ((1000000 : Int32), (-1 : Int32), (0 : Int32), (0 : Int32))).bind (fun b6 => if x1 = (0 : Int32) then some b6.1 else if x1 = (1 : Int32) then some b6.2.1 else some b6.2.2)) = some res := hf
  refine m_start (by decide) rfl (Nat.le_of_ble_eq_true rfl) ?_
  intro p e s m args below meth c S hR hS ls hl
  obtain ⟨hx, hb, hml, hown, hts⟩ := S.1.1
  have hl : lv_has ls 6 [(0, .ref (mo G)), (1, .int x1)] := hl
  refine lv_iload_n hx hb dX4_dear_0 rfl (lv_at hl 1 rfl) ?_
  refine lv_iconst (v := 0) hx hb dX4_dear_1 (by decide) ?_
  refine lv_iconst (v := 2) hx hb dX4_dear_2 (by decide) ?_
  refine s_call (As := [.int x1, .int (0 : Int32), .int (2 : Int32)]) (rest := []) S.1.1 (met_X4_in rfl) wi_X4_in q2681 ⟨rfl, rfl⟩ ⟨Nat.le_of_ble_eq_true rfl, Nat.le_of_ble_eq_true rfl⟩ rfl hl.1 rfl (Nat.le_of_ble_eq_true rfl) dX4_dear_3 ⟨Nat.zero_le _, Nat.zero_le _⟩ ?_
  refine lv_if_ne (tgt := 12) hx hb dX4_dear_6 (by decide) (fun c_6 => ?_) (fun c_6 => ?_)
  · replace hf := o_f hf c_6
    refine lv_ldc hx hb hown (hts _ q2773) dX4_dear_12 ?_
    refine lv_istore_n (lv' := [(2, .int (1000000 : Int32)), (0, .ref (mo G)), (1, .int x1)]) hx hb dX4_dear_14 rfl hl (by decide) rfl (fun ls hl => ?_)
    refine lv_iconst (v := -1) hx hb dX4_dear_15 (by decide) ?_
    refine lv_istore_n (lv' := [(3, .int (-1 : Int32)), (2, .int (1000000 : Int32)), (0, .ref (mo G)), (1, .int x1)]) hx hb dX4_dear_16 rfl hl (by decide) rfl (fun ls hl => ?_)
    refine lv_iconst (v := 0) hx hb dX4_dear_17 (by decide) ?_
    refine lv_istore (lv' := [(4, .int (0 : Int32)), (3, .int (-1 : Int32)), (2, .int (1000000 : Int32)), (0, .ref (mo G)), (1, .int x1)]) hx hb dX4_dear_18 hl (by decide) rfl (fun ls hl => ?_)
    refine lv_iconst (v := 0) hx hb dX4_dear_20 (by decide) ?_
    refine lv_istore (lv' := [(5, .int (0 : Int32)), (4, .int (0 : Int32)), (3, .int (-1 : Int32)), (2, .int (1000000 : Int32)), (0, .ref (mo G)), (1, .int x1)]) hx hb dX4_dear_21 hl (by decide) rfl (fun ls hl => ?_)
    refine k_bind hf (fun b6 hb6 hf => ?_)
    refine wLX4_dear_23 S hb6 ?_ _ _ _ hR hS (lv_sub (l' := [(0, .ref (mo G)), (1, .int x1), (2, .int (1000000 : Int32)), (3, .int (-1 : Int32)), (4, .int (0 : Int32)), (5, .int (0 : Int32))]) hl [4, 5, 3, 2, 1, 0] rfl)
    · intro b eb; subst eb; intro H locs ls hR hS hl
      refine lv_iload_n hx hb dX4_dear_104 rfl (lv_at hl 1 rfl) ?_
      refine lv_if_ne (tgt := 112) hx hb dX4_dear_105 (by decide) (fun c_105 => ?_) (fun c_105 => ?_)
      · replace hf := o_f hf c_105
        refine lv_iload_n hx hb dX4_dear_112 rfl (lv_at hl 1 rfl) ?_
        refine lv_iconst (v := 1) hx hb dX4_dear_113 (by decide) ?_
        refine lv_icmp_ne (tgt := 121) hx hb dX4_dear_114 (by decide) (fun c_114 => ?_) (fun c_114 => ?_)
        · replace hf := o_f hf c_114
          refine lv_iload hx hb dX4_dear_121 (lv_at hl 4 rfl) ?_
          obtain rfl := Option.some.inj hf
          exact m_iret S hR hS rfl dX4_dear_123
        · replace hf := o_t hf c_114
          refine lv_iload_n hx hb dX4_dear_117 rfl (lv_at hl 3 rfl) ?_
          refine lv_goto (tgt := 123) hx hb dX4_dear_118 (by decide) ?_
          obtain rfl := Option.some.inj hf
          exact m_iret S hR hS rfl dX4_dear_123
      · replace hf := o_t hf c_105
        refine lv_iload_n hx hb dX4_dear_108 rfl (lv_at hl 2 rfl) ?_
        refine lv_goto (tgt := 123) hx hb dX4_dear_109 (by decide) ?_
        obtain rfl := Option.some.inj hf
        exact m_iret S hR hS rfl dX4_dear_123
  · replace hf := o_t hf c_6
    refine lv_bipush (v := -2) hx hb dX4_dear_9 (by decide) ?_
    obtain rfl := Option.some.inj hf
    exact m_iret S hR hS rfl dX4_dear_11

noncomputable def LX4_sized_17 (y1 : Int32) (σ : mS) (q : Int32 × Int32) : Option ((Int32 × Int32) ⊕ (Int32)) :=
  if (fX4_all σ) < q.2 then some (Sum.inr q.1) else (fX4_bits q.2).bind (fun v1 => if v1 = y1 then (fX4_covers q.2 σ).bind (fun v3 => if v3 = (0 : Int32) then (some (q.1 + (0 : Int32))).bind (fun v4 => some (Sum.inl (v4, q.2 + (1 : Int32)))) else (some (q.1 + (1 : Int32))).bind (fun v5 => some (Sum.inl (v5, q.2 + (1 : Int32))))) else (some (q.1 + (0 : Int32))).bind (fun v2 => some (Sum.inl (v2, q.2 + (1 : Int32)))))
noncomputable def fX4_sized (x1 : Int32) (σ : mS) : Option Int32 :=
  if (fX4_in x1 (0 : Int32) (12 : Int32)) = (0 : Int32) then some (-2 : Int32) else (lpw (LX4_sized_17 x1 σ) ((0 : Int32), (0 : Int32))).bind (fun b6 => some b6)
theorem wi_X4_sized : wInfV yX4_sized cX4_sized 4 (Option.some Jvm.ClassFile.FieldType.int) 1 := ⟨q2775, q2776, q116, q2777, (by decide +kernel), (by decide +kernel), (by decide +kernel)⟩
set_option maxHeartbeats 4000000 in
set_option maxRecDepth 100000 in
theorem wbLX4_sized_17 {l : Launch} {G : mG} {p : Program} {e : Env} {s : State} {m : MethodId} {args : Array Value} {below : List Frame} {meth : Method} {c : Code} {Q : State → Prop} {y1 : Int32} {σ : mS} {q : Int32 × Int32} {res : (Int32 × Int32) ⊕ (Int32)} (S : mSt G p m c cX4_sized 4 s args meth (Option.some Jvm.ClassFile.FieldType.int)) (hf : LX4_sized_17 y1 σ q = some res) (hK : ∀ q, res = Sum.inl q → (∀ (H : Heap) (locs : List Loc) (ls : Array Slot), mR G σ H → va_S (mA G) s.heap H locs → lv_has ls 4 [(0, .ref (mo G)), (1, .int y1), (2, .int q.1), (3, .int q.2)] → W p l e (mRm 2 44) s m args below meth c H locs 0 0 Q (F0 m 17 ls []))) (hE55 : ∀ b, res = Sum.inr b → (∀ (H : Heap) (locs : List Loc) (ls : Array Slot), mR G σ H → va_S (mA G) s.heap H locs → lv_has ls 4 [(0, .ref (mo G)), (2, .int b)] → W p l e (mRm 2 44) s m args below meth c H locs 0 0 Q (F0 m 55 ls []))) : (∀ (H : Heap) (locs : List Loc) (ls : Array Slot), mR G σ H → va_S (mA G) s.heap H locs → lv_has ls 4 [(0, .ref (mo G)), (1, .int y1), (2, .int q.1), (3, .int q.2)] → W p l e (mRm 2 44) s m args below meth c H locs 0 0 Q (F0 m 17 ls [])) := by
  replace hf : (if (fX4_all σ) < q.2 then some (Sum.inr q.1) else (fX4_bits q.2).bind (fun v1 => if v1 = y1 then (fX4_covers q.2 σ).bind (fun v3 => if v3 = (0 : Int32) then (some (q.1 + (0 : Int32))).bind (fun v4 => some (Sum.inl (v4, q.2 + (1 : Int32)))) else (some (q.1 + (1 : Int32))).bind (fun v5 => some (Sum.inl (v5, q.2 + (1 : Int32))))) else (some (q.1 + (0 : Int32))).bind (fun v2 => some (Sum.inl (v2, q.2 + (1 : Int32)))))) = some res := hf
  obtain ⟨hx, hb, hml, hown, hts⟩ := S.1.1
  intro H locs ls hR hS hl
  refine lv_iload_n hx hb dX4_sized_17 rfl (lv_at hl 3 rfl) ?_
  refine lv_aload_n hx hb dX4_sized_18 rfl (lv_at hl 0 rfl) ?_
  refine m_call (As := []) (rest := [.int q.2]) S hR hS (met_X4_all rfl) wi_X4_all rfl q2738 ⟨rfl, rfl⟩ ⟨Nat.le_of_ble_eq_true rfl, Nat.le_of_ble_eq_true rfl⟩ rfl hl.1 rfl (Nat.le_of_ble_eq_true rfl) dX4_sized_19 (fun H locs hR hS => ?_)
  refine lv_icmp_gt (tgt := 55) hx hb dX4_sized_22 (by decide) (fun c_22 => ?_) (fun c_22 => ?_)
  · replace hf := o_t hf c_22
    exact hE55 _ (Option.some.inj hf).symm _ _ _ hR hS (lv_sub (l' := [(0, .ref (mo G)), (2, .int q.1)]) hl [0, 2] rfl)
  · replace hf := o_f hf c_22
    refine lv_iload_n hx hb dX4_sized_25 rfl (lv_at hl 2 rfl) ?_
    refine lv_iload_n hx hb dX4_sized_26 rfl (lv_at hl 3 rfl) ?_
    refine k_bind hf (fun v1 hv1 hf => ?_)
    refine s_call (As := [.int q.2]) (rest := [.int q.1]) S.1.1 (met_X4_bits hv1) wi_X4_bits q2712 ⟨rfl, rfl⟩ ⟨Nat.le_of_ble_eq_true rfl, Nat.le_of_ble_eq_true rfl⟩ rfl hl.1 rfl (Nat.le_of_ble_eq_true rfl) dX4_sized_27 ⟨Nat.zero_le _, Nat.zero_le _⟩ ?_
    refine lv_iload_n hx hb dX4_sized_30 rfl (lv_at hl 1 rfl) ?_
    refine lv_icmp_ne (tgt := 46) hx hb dX4_sized_31 (by decide) (fun c_31 => ?_) (fun c_31 => ?_)
    · replace hf := o_f hf c_31
      refine lv_iconst (v := 0) hx hb dX4_sized_46 (by decide) ?_
      refine lv_iadd hx hb dX4_sized_47 ?_
      refine k_bind hf (fun v2 hv2 hf => ?_)
      refine m_nmi hv2 ?_
      refine lv_istore_n (lv' := [(2, .int v2), (0, .ref (mo G)), (1, .int y1), (3, .int q.2)]) hx hb dX4_sized_48 rfl hl (by decide) rfl (fun ls hl => ?_)
      refine lv_iinc (lv' := [(3, .int (q.2 + (1 : Int32))), (2, .int v2), (0, .ref (mo G)), (1, .int y1)]) hx hb dX4_sized_49 hl (k := 3) rfl (m_inc (by decide)) (by decide) rfl (fun ls hl => ?_)
      refine lv_goto (tgt := 17) hx hb dX4_sized_52 (by decide) ?_
      exact hK _ (Option.some.inj hf).symm _ _ _ hR hS (lv_sub (l' := [(0, .ref (mo G)), (1, .int y1), (2, .int v2), (3, .int (q.2 + (1 : Int32)))]) hl [2, 3, 1, 0] rfl)
    · replace hf := o_t hf c_31
      refine lv_aload_n hx hb dX4_sized_34 rfl (lv_at hl 0 rfl) ?_
      refine lv_iload_n hx hb dX4_sized_35 rfl (lv_at hl 3 rfl) ?_
      refine k_bind hf (fun v3 hv3 hf => ?_)
      refine m_call (As := [.int q.2]) (rest := [.int q.1]) S hR hS (met_X4_covers hv3) wi_X4_covers rfl q2746 ⟨rfl, rfl⟩ ⟨Nat.le_of_ble_eq_true rfl, Nat.le_of_ble_eq_true rfl⟩ rfl hl.1 rfl (Nat.le_of_ble_eq_true rfl) dX4_sized_36 (fun H locs hR hS => ?_)
      refine lv_if_eq (tgt := 46) hx hb dX4_sized_39 (by decide) (fun c_39 => ?_) (fun c_39 => ?_)
      · replace hf := o_t hf c_39
        refine lv_iconst (v := 0) hx hb dX4_sized_46 (by decide) ?_
        refine lv_iadd hx hb dX4_sized_47 ?_
        refine k_bind hf (fun v4 hv4 hf => ?_)
        refine m_nmi hv4 ?_
        refine lv_istore_n (lv' := [(2, .int v4), (0, .ref (mo G)), (1, .int y1), (3, .int q.2)]) hx hb dX4_sized_48 rfl hl (by decide) rfl (fun ls hl => ?_)
        refine lv_iinc (lv' := [(3, .int (q.2 + (1 : Int32))), (2, .int v4), (0, .ref (mo G)), (1, .int y1)]) hx hb dX4_sized_49 hl (k := 3) rfl (m_inc (by decide)) (by decide) rfl (fun ls hl => ?_)
        refine lv_goto (tgt := 17) hx hb dX4_sized_52 (by decide) ?_
        exact hK _ (Option.some.inj hf).symm _ _ _ hR hS (lv_sub (l' := [(0, .ref (mo G)), (1, .int y1), (2, .int v4), (3, .int (q.2 + (1 : Int32)))]) hl [2, 3, 1, 0] rfl)
      · replace hf := o_f hf c_39
        refine lv_iconst (v := 1) hx hb dX4_sized_42 (by decide) ?_
        refine lv_goto (tgt := 47) hx hb dX4_sized_43 (by decide) ?_
        refine lv_iadd hx hb dX4_sized_47 ?_
        refine k_bind hf (fun v5 hv5 hf => ?_)
        refine m_nmi hv5 ?_
        refine lv_istore_n (lv' := [(2, .int v5), (0, .ref (mo G)), (1, .int y1), (3, .int q.2)]) hx hb dX4_sized_48 rfl hl (by decide) rfl (fun ls hl => ?_)
        refine lv_iinc (lv' := [(3, .int (q.2 + (1 : Int32))), (2, .int v5), (0, .ref (mo G)), (1, .int y1)]) hx hb dX4_sized_49 hl (k := 3) rfl (m_inc (by decide)) (by decide) rfl (fun ls hl => ?_)
        refine lv_goto (tgt := 17) hx hb dX4_sized_52 (by decide) ?_
        exact hK _ (Option.some.inj hf).symm _ _ _ hR hS (lv_sub (l' := [(0, .ref (mo G)), (1, .int y1), (2, .int v5), (3, .int (q.2 + (1 : Int32)))]) hl [2, 3, 1, 0] rfl)
set_option maxHeartbeats 4000000 in
set_option maxRecDepth 100000 in
theorem wLX4_sized_17 {l : Launch} {G : mG} {p : Program} {e : Env} {s : State} {m : MethodId} {args : Array Value} {below : List Frame} {meth : Method} {c : Code} {Q : State → Prop} {y1 : Int32} {σ : mS} {q : Int32 × Int32} {res : Int32} (S : mSt G p m c cX4_sized 4 s args meth (Option.some Jvm.ClassFile.FieldType.int)) (h : lpw (LX4_sized_17 y1 σ) q = some res) (hE55 : ∀ b, res = b → (∀ (H : Heap) (locs : List Loc) (ls : Array Slot), mR G σ H → va_S (mA G) s.heap H locs → lv_has ls 4 [(0, .ref (mo G)), (2, .int b)] → W p l e (mRm 2 44) s m args below meth c H locs 0 0 Q (F0 m 55 ls []))) : (∀ (H : Heap) (locs : List Loc) (ls : Array Slot), mR G σ H → va_S (mA G) s.heap H locs → lv_has ls 4 [(0, .ref (mo G)), (1, .int y1), (2, .int q.1), (3, .int q.2)] → W p l e (mRm 2 44) s m args below meth c H locs 0 0 Q (F0 m 17 ls [])) :=
  lpw_go _ (fun q => (∀ (H : Heap) (locs : List Loc) (ls : Array Slot), mR G σ H → va_S (mA G) s.heap H locs → lv_has ls 4 [(0, .ref (mo G)), (1, .int y1), (2, .int q.1), (3, .int q.2)] → W p l e (mRm 2 44) s m args below meth c H locs 0 0 Q (F0 m 17 ls []))) (fun b0 => (∀ b, b0 = b → (∀ (H : Heap) (locs : List Loc) (ls : Array Slot), mR G σ H → va_S (mA G) s.heap H locs → lv_has ls 4 [(0, .ref (mo G)), (2, .int b)] → W p l e (mRm 2 44) s m args below meth c H locs 0 0 Q (F0 m 55 ls [])))) (fun q x hf hK hX => wbLX4_sized_17 S hf hK (fun b eb => (hX _ eb) b rfl)) q res h hE55
set_option maxHeartbeats 4000000 in
set_option maxRecDepth 100000 in
theorem met_X4_sized {l : Launch} {G : mG} {x1 : Int32} {σ : mS} {res : Int32} (hf : fX4_sized x1 σ = some res) : mMet l yX4_sized cX4_sized 4 (Option.some Jvm.ClassFile.FieldType.int) (mRm 2 44) G [.ref (mo G), .int x1] σ (some (.int res)) σ := by
  replace hf : (if (fX4_in x1 (0 : Int32) (12 : Int32)) = (0 : Int32) then some (-2 : Int32) else (lpw (LX4_sized_17 x1 σ) ((0 : Int32), (0 : Int32))).bind (fun b6 => some b6)) = some res := hf
  refine m_start (by decide) rfl (Nat.le_of_ble_eq_true rfl) ?_
  intro p e s m args below meth c S hR hS ls hl
  obtain ⟨hx, hb, hml, hown, hts⟩ := S.1.1
  have hl : lv_has ls 4 [(0, .ref (mo G)), (1, .int x1)] := hl
  refine lv_iload_n hx hb dX4_sized_0 rfl (lv_at hl 1 rfl) ?_
  refine lv_iconst (v := 0) hx hb dX4_sized_1 (by decide) ?_
  refine lv_bipush (v := 12) hx hb dX4_sized_2 (by decide) ?_
  refine s_call (As := [.int x1, .int (0 : Int32), .int (12 : Int32)]) (rest := []) S.1.1 (met_X4_in rfl) wi_X4_in q2681 ⟨rfl, rfl⟩ ⟨Nat.le_of_ble_eq_true rfl, Nat.le_of_ble_eq_true rfl⟩ rfl hl.1 rfl (Nat.le_of_ble_eq_true rfl) dX4_sized_4 ⟨Nat.zero_le _, Nat.zero_le _⟩ ?_
  refine lv_if_ne (tgt := 13) hx hb dX4_sized_7 (by decide) (fun c_7 => ?_) (fun c_7 => ?_)
  · replace hf := o_f hf c_7
    refine lv_iconst (v := 0) hx hb dX4_sized_13 (by decide) ?_
    refine lv_istore_n (lv' := [(2, .int (0 : Int32)), (0, .ref (mo G)), (1, .int x1)]) hx hb dX4_sized_14 rfl hl (by decide) rfl (fun ls hl => ?_)
    refine lv_iconst (v := 0) hx hb dX4_sized_15 (by decide) ?_
    refine lv_istore_n (lv' := [(3, .int (0 : Int32)), (2, .int (0 : Int32)), (0, .ref (mo G)), (1, .int x1)]) hx hb dX4_sized_16 rfl hl (by decide) rfl (fun ls hl => ?_)
    refine k_bind hf (fun b6 hb6 hf => ?_)
    refine wLX4_sized_17 S hb6 ?_ _ _ _ hR hS (lv_sub (l' := [(0, .ref (mo G)), (1, .int x1), (2, .int (0 : Int32)), (3, .int (0 : Int32))]) hl [2, 3, 1, 0] rfl)
    · intro b eb; subst eb; intro H locs ls hR hS hl
      refine lv_iload_n hx hb dX4_sized_55 rfl (lv_at hl 1 rfl) ?_
      obtain rfl := Option.some.inj hf
      exact m_iret S hR hS rfl dX4_sized_56
  · replace hf := o_t hf c_7
    refine lv_bipush (v := -2) hx hb dX4_sized_10 (by decide) ?_
    obtain rfl := Option.some.inj hf
    exact m_iret S hR hS rfl dX4_sized_12

noncomputable def JX4_bare_62 (y1 : Int32) (y2 : Int32) (y3 : Int32) (y5 : Int32) (z0 : Int32) (σ : mS) : Option ((Int32 × Int32 × Int32 × Int32) ⊕ (Int32 × Int32 × Int32)) :=
  (fX4_bits y5).bind (fun v3 => if v3 ≤ y3 then some (Sum.inl (y2, y3, z0, y5 + (1 : Int32))) else (fX4_bits y5).bind (fun v4 => some (Sum.inl (y2, v4, z0, y5 + (1 : Int32)))))
noncomputable def LX4_bare_22 (y1 : Int32) (σ : mS) (q : Int32 × Int32 × Int32 × Int32) : Option ((Int32 × Int32 × Int32 × Int32) ⊕ (Int32 × Int32 × Int32)) :=
  if (fX4_all σ) < q.2.2.2 then some (Sum.inr (q.1, q.2.1, q.2.2.1)) else (fX4_isBare q.2.2.2 σ).bind (fun v1 => if v1 = (0 : Int32) then some (Sum.inl (q.1, q.2.1, q.2.2.1, q.2.2.2 + (1 : Int32))) else (fX4_bits q.2.2.2).bind (fun v2 => if v2 ≤ q.2.1 then JX4_bare_62 y1 (q.1 + (1 : Int32)) q.2.1 q.2.2.2 q.2.2.1 σ else JX4_bare_62 y1 (q.1 + (1 : Int32)) q.2.1 q.2.2.2 q.2.2.2 σ))
noncomputable def fX4_bare (x1 : Int32) (σ : mS) : Option Int32 :=
  if (fX4_in x1 (0 : Int32) (2 : Int32)) = (0 : Int32) then some (-2 : Int32) else (lpw (LX4_bare_22 x1 σ) ((0 : Int32), (-1 : Int32), (-1 : Int32), (0 : Int32))).bind (fun b5 => if x1 = (0 : Int32) then some b5.1 else if x1 = (1 : Int32) then some b5.2.1 else some b5.2.2)
theorem wi_X4_bare : wInfV yX4_bare cX4_bare 6 (Option.some Jvm.ClassFile.FieldType.int) 1 := ⟨q2779, q2780, q116, q2781, (by decide +kernel), (by decide +kernel), (by decide +kernel)⟩
set_option maxHeartbeats 4000000 in
set_option maxRecDepth 100000 in
theorem wJX4_bare_62 {l : Launch} {G : mG} {p : Program} {e : Env} {s : State} {m : MethodId} {args : Array Value} {below : List Frame} {meth : Method} {c : Code} {Q : State → Prop} {y1 : Int32} {y2 : Int32} {y3 : Int32} {y5 : Int32} {z0 : Int32} {σ : mS} {res : (Int32 × Int32 × Int32 × Int32) ⊕ (Int32 × Int32 × Int32)} (S : mSt G p m c cX4_bare 6 s args meth (Option.some Jvm.ClassFile.FieldType.int)) (hf : JX4_bare_62 y1 y2 y3 y5 z0 σ = some res) (hK : ∀ q, res = Sum.inl q → (∀ (H : Heap) (locs : List Loc) (ls : Array Slot), mR G σ H → va_S (mA G) s.heap H locs → lv_has ls 6 [(0, .ref (mo G)), (1, .int y1), (2, .int q.1), (3, .int q.2.1), (4, .int q.2.2.1), (5, .int q.2.2.2)] → W p l e (mRm 3 67) s m args below meth c H locs 0 0 Q (F0 m 22 ls []))) (hE89 : ∀ b, res = Sum.inr b → (∀ (H : Heap) (locs : List Loc) (ls : Array Slot), mR G σ H → va_S (mA G) s.heap H locs → lv_has ls 6 [(0, .ref (mo G)), (1, .int y1), (2, .int b.1), (3, .int b.2.1), (4, .int b.2.2)] → W p l e (mRm 3 67) s m args below meth c H locs 0 0 Q (F0 m 89 ls []))) : ∀ (H : Heap) (locs : List Loc) (ls : Array Slot), mR G σ H → va_S (mA G) s.heap H locs → lv_has ls 6 [(0, .ref (mo G)), (1, .int y1), (2, .int y2), (3, .int y3), (5, .int y5)] → W p l e (mRm 3 67) s m args below meth c H locs 0 0 Q (F0 m 62 ls [.int z0]) := by
  replace hf : ((fX4_bits y5).bind (fun v3 => if v3 ≤ y3 then some (Sum.inl (y2, y3, z0, y5 + (1 : Int32))) else (fX4_bits y5).bind (fun v4 => some (Sum.inl (y2, v4, z0, y5 + (1 : Int32)))))) = some res := hf
  obtain ⟨hx, hb, hml, hown, hts⟩ := S.1.1
  intro H locs ls hR hS hl
  refine lv_istore (lv' := [(4, .int z0), (0, .ref (mo G)), (1, .int y1), (2, .int y2), (3, .int y3), (5, .int y5)]) hx hb dX4_bare_62 hl (by decide) rfl (fun ls hl => ?_)
  refine lv_iload hx hb dX4_bare_64 (lv_at hl 5 rfl) ?_
  refine k_bind hf (fun v3 hv3 hf => ?_)
  refine s_call (As := [.int y5]) (rest := []) S.1.1 (met_X4_bits hv3) wi_X4_bits q2712 ⟨rfl, rfl⟩ ⟨Nat.le_of_ble_eq_true rfl, Nat.le_of_ble_eq_true rfl⟩ rfl hl.1 rfl (Nat.le_of_ble_eq_true rfl) dX4_bare_66 ⟨Nat.zero_le _, Nat.zero_le _⟩ ?_
  refine lv_iload_n hx hb dX4_bare_69 rfl (lv_at hl 4 rfl) ?_
  refine lv_icmp_le (tgt := 81) hx hb dX4_bare_70 (by decide) (fun c_70 => ?_) (fun c_70 => ?_)
  · replace hf := o_t hf c_70
    refine lv_iload_n hx hb dX4_bare_81 rfl (lv_at hl 4 rfl) ?_
    refine lv_istore_n (lv' := [(3, .int y3), (4, .int z0), (0, .ref (mo G)), (1, .int y1), (2, .int y2), (5, .int y5)]) hx hb dX4_bare_82 rfl hl (by decide) rfl (fun ls hl => ?_)
    refine lv_iinc (lv' := [(5, .int (y5 + (1 : Int32))), (3, .int y3), (4, .int z0), (0, .ref (mo G)), (1, .int y1), (2, .int y2)]) hx hb dX4_bare_83 hl (k := 5) rfl (m_inc (by decide)) (by decide) rfl (fun ls hl => ?_)
    refine lv_goto (tgt := 22) hx hb dX4_bare_86 (by decide) ?_
    exact hK _ (Option.some.inj hf).symm _ _ _ hR hS (lv_sub (l' := [(0, .ref (mo G)), (1, .int y1), (2, .int y2), (3, .int y3), (4, .int z0), (5, .int (y5 + (1 : Int32)))]) hl [3, 4, 5, 1, 2, 0] rfl)
  · replace hf := o_f hf c_70
    refine lv_iload hx hb dX4_bare_73 (lv_at hl 5 rfl) ?_
    refine k_bind hf (fun v4 hv4 hf => ?_)
    refine s_call (As := [.int y5]) (rest := []) S.1.1 (met_X4_bits hv4) wi_X4_bits q2712 ⟨rfl, rfl⟩ ⟨Nat.le_of_ble_eq_true rfl, Nat.le_of_ble_eq_true rfl⟩ rfl hl.1 rfl (Nat.le_of_ble_eq_true rfl) dX4_bare_75 ⟨Nat.zero_le _, Nat.zero_le _⟩ ?_
    refine lv_goto (tgt := 82) hx hb dX4_bare_78 (by decide) ?_
    refine lv_istore_n (lv' := [(3, .int v4), (4, .int z0), (0, .ref (mo G)), (1, .int y1), (2, .int y2), (5, .int y5)]) hx hb dX4_bare_82 rfl hl (by decide) rfl (fun ls hl => ?_)
    refine lv_iinc (lv' := [(5, .int (y5 + (1 : Int32))), (3, .int v4), (4, .int z0), (0, .ref (mo G)), (1, .int y1), (2, .int y2)]) hx hb dX4_bare_83 hl (k := 5) rfl (m_inc (by decide)) (by decide) rfl (fun ls hl => ?_)
    refine lv_goto (tgt := 22) hx hb dX4_bare_86 (by decide) ?_
    exact hK _ (Option.some.inj hf).symm _ _ _ hR hS (lv_sub (l' := [(0, .ref (mo G)), (1, .int y1), (2, .int y2), (3, .int v4), (4, .int z0), (5, .int (y5 + (1 : Int32)))]) hl [3, 4, 5, 1, 2, 0] rfl)
set_option maxHeartbeats 4000000 in
set_option maxRecDepth 100000 in
theorem wbLX4_bare_22 {l : Launch} {G : mG} {p : Program} {e : Env} {s : State} {m : MethodId} {args : Array Value} {below : List Frame} {meth : Method} {c : Code} {Q : State → Prop} {y1 : Int32} {σ : mS} {q : Int32 × Int32 × Int32 × Int32} {res : (Int32 × Int32 × Int32 × Int32) ⊕ (Int32 × Int32 × Int32)} (S : mSt G p m c cX4_bare 6 s args meth (Option.some Jvm.ClassFile.FieldType.int)) (hf : LX4_bare_22 y1 σ q = some res) (hK : ∀ q, res = Sum.inl q → (∀ (H : Heap) (locs : List Loc) (ls : Array Slot), mR G σ H → va_S (mA G) s.heap H locs → lv_has ls 6 [(0, .ref (mo G)), (1, .int y1), (2, .int q.1), (3, .int q.2.1), (4, .int q.2.2.1), (5, .int q.2.2.2)] → W p l e (mRm 3 67) s m args below meth c H locs 0 0 Q (F0 m 22 ls []))) (hE89 : ∀ b, res = Sum.inr b → (∀ (H : Heap) (locs : List Loc) (ls : Array Slot), mR G σ H → va_S (mA G) s.heap H locs → lv_has ls 6 [(0, .ref (mo G)), (1, .int y1), (2, .int b.1), (3, .int b.2.1), (4, .int b.2.2)] → W p l e (mRm 3 67) s m args below meth c H locs 0 0 Q (F0 m 89 ls []))) : (∀ (H : Heap) (locs : List Loc) (ls : Array Slot), mR G σ H → va_S (mA G) s.heap H locs → lv_has ls 6 [(0, .ref (mo G)), (1, .int y1), (2, .int q.1), (3, .int q.2.1), (4, .int q.2.2.1), (5, .int q.2.2.2)] → W p l e (mRm 3 67) s m args below meth c H locs 0 0 Q (F0 m 22 ls [])) := by
  replace hf : (if (fX4_all σ) < q.2.2.2 then some (Sum.inr (q.1, q.2.1, q.2.2.1)) else (fX4_isBare q.2.2.2 σ).bind (fun v1 => if v1 = (0 : Int32) then some (Sum.inl (q.1, q.2.1, q.2.2.1, q.2.2.2 + (1 : Int32))) else (fX4_bits q.2.2.2).bind (fun v2 => if v2 ≤ q.2.1 then JX4_bare_62 y1 (q.1 + (1 : Int32)) q.2.1 q.2.2.2 q.2.2.1 σ else JX4_bare_62 y1 (q.1 + (1 : Int32)) q.2.1 q.2.2.2 q.2.2.2 σ))) = some res := hf
  obtain ⟨hx, hb, hml, hown, hts⟩ := S.1.1
  intro H locs ls hR hS hl
  refine lv_iload hx hb dX4_bare_22 (lv_at hl 5 rfl) ?_
  refine lv_aload_n hx hb dX4_bare_24 rfl (lv_at hl 0 rfl) ?_
  refine m_call (As := []) (rest := [.int q.2.2.2]) S hR hS (met_X4_all rfl) wi_X4_all rfl q2738 ⟨rfl, rfl⟩ ⟨Nat.le_of_ble_eq_true rfl, Nat.le_of_ble_eq_true rfl⟩ rfl hl.1 rfl (Nat.le_of_ble_eq_true rfl) dX4_bare_25 (fun H locs hR hS => ?_)
  refine lv_icmp_gt (tgt := 89) hx hb dX4_bare_28 (by decide) (fun c_28 => ?_) (fun c_28 => ?_)
  · replace hf := o_t hf c_28
    exact hE89 _ (Option.some.inj hf).symm _ _ _ hR hS (lv_sub (l' := [(0, .ref (mo G)), (1, .int y1), (2, .int q.1), (3, .int q.2.1), (4, .int q.2.2.1)]) hl [0, 1, 2, 3, 4] rfl)
  · replace hf := o_f hf c_28
    refine lv_aload_n hx hb dX4_bare_31 rfl (lv_at hl 0 rfl) ?_
    refine lv_iload hx hb dX4_bare_32 (lv_at hl 5 rfl) ?_
    refine k_bind hf (fun v1 hv1 hf => ?_)
    refine m_call (As := [.int q.2.2.2]) (rest := []) S hR hS (met_X4_isBare hv1) wi_X4_isBare rfl q2742 ⟨rfl, rfl⟩ ⟨Nat.le_of_ble_eq_true rfl, Nat.le_of_ble_eq_true rfl⟩ rfl hl.1 rfl (Nat.le_of_ble_eq_true rfl) dX4_bare_34 (fun H locs hR hS => ?_)
    refine lv_if_ne (tgt := 43) hx hb dX4_bare_37 (by decide) (fun c_37 => ?_) (fun c_37 => ?_)
    · replace hf := o_f hf c_37
      refine lv_iinc (lv' := [(2, .int (q.1 + (1 : Int32))), (0, .ref (mo G)), (1, .int y1), (3, .int q.2.1), (4, .int q.2.2.1), (5, .int q.2.2.2)]) hx hb dX4_bare_43 hl (k := 2) rfl (m_inc (by decide)) (by decide) rfl (fun ls hl => ?_)
      refine lv_iload hx hb dX4_bare_46 (lv_at hl 5 rfl) ?_
      refine k_bind hf (fun v2 hv2 hf => ?_)
      refine s_call (As := [.int q.2.2.2]) (rest := []) S.1.1 (met_X4_bits hv2) wi_X4_bits q2712 ⟨rfl, rfl⟩ ⟨Nat.le_of_ble_eq_true rfl, Nat.le_of_ble_eq_true rfl⟩ rfl hl.1 rfl (Nat.le_of_ble_eq_true rfl) dX4_bare_48 ⟨Nat.zero_le _, Nat.zero_le _⟩ ?_
      refine lv_iload_n hx hb dX4_bare_51 rfl (lv_at hl 3 rfl) ?_
      refine lv_icmp_le (tgt := 60) hx hb dX4_bare_52 (by decide) (fun c_52 => ?_) (fun c_52 => ?_)
      · replace hf := o_t hf c_52
        refine lv_iload hx hb dX4_bare_60 (lv_at hl 4 rfl) ?_
        exact wJX4_bare_62 S hf hK hE89 _ _ _ hR hS (lv_sub (l' := [(0, .ref (mo G)), (1, .int y1), (2, .int (q.1 + (1 : Int32))), (3, .int q.2.1), (5, .int q.2.2.2)]) hl [1, 2, 0, 3, 5] rfl)
      · replace hf := o_f hf c_52
        refine lv_iload hx hb dX4_bare_55 (lv_at hl 5 rfl) ?_
        refine lv_goto (tgt := 62) hx hb dX4_bare_57 (by decide) ?_
        exact wJX4_bare_62 S hf hK hE89 _ _ _ hR hS (lv_sub (l' := [(0, .ref (mo G)), (1, .int y1), (2, .int (q.1 + (1 : Int32))), (3, .int q.2.1), (5, .int q.2.2.2)]) hl [1, 2, 0, 3, 5] rfl)
    · replace hf := o_t hf c_37
      refine lv_goto (tgt := 83) hx hb dX4_bare_40 (by decide) ?_
      refine lv_iinc (lv' := [(5, .int (q.2.2.2 + (1 : Int32))), (0, .ref (mo G)), (1, .int y1), (2, .int q.1), (3, .int q.2.1), (4, .int q.2.2.1)]) hx hb dX4_bare_83 hl (k := 5) rfl (m_inc (by decide)) (by decide) rfl (fun ls hl => ?_)
      refine lv_goto (tgt := 22) hx hb dX4_bare_86 (by decide) ?_
      exact hK _ (Option.some.inj hf).symm _ _ _ hR hS (lv_sub (l' := [(0, .ref (mo G)), (1, .int y1), (2, .int q.1), (3, .int q.2.1), (4, .int q.2.2.1), (5, .int (q.2.2.2 + (1 : Int32)))]) hl [1, 2, 3, 4, 5, 0] rfl)
set_option maxHeartbeats 4000000 in
set_option maxRecDepth 100000 in
theorem wLX4_bare_22 {l : Launch} {G : mG} {p : Program} {e : Env} {s : State} {m : MethodId} {args : Array Value} {below : List Frame} {meth : Method} {c : Code} {Q : State → Prop} {y1 : Int32} {σ : mS} {q : Int32 × Int32 × Int32 × Int32} {res : Int32 × Int32 × Int32} (S : mSt G p m c cX4_bare 6 s args meth (Option.some Jvm.ClassFile.FieldType.int)) (h : lpw (LX4_bare_22 y1 σ) q = some res) (hE89 : ∀ b, res = b → (∀ (H : Heap) (locs : List Loc) (ls : Array Slot), mR G σ H → va_S (mA G) s.heap H locs → lv_has ls 6 [(0, .ref (mo G)), (1, .int y1), (2, .int b.1), (3, .int b.2.1), (4, .int b.2.2)] → W p l e (mRm 3 67) s m args below meth c H locs 0 0 Q (F0 m 89 ls []))) : (∀ (H : Heap) (locs : List Loc) (ls : Array Slot), mR G σ H → va_S (mA G) s.heap H locs → lv_has ls 6 [(0, .ref (mo G)), (1, .int y1), (2, .int q.1), (3, .int q.2.1), (4, .int q.2.2.1), (5, .int q.2.2.2)] → W p l e (mRm 3 67) s m args below meth c H locs 0 0 Q (F0 m 22 ls [])) :=
  lpw_go _ (fun q => (∀ (H : Heap) (locs : List Loc) (ls : Array Slot), mR G σ H → va_S (mA G) s.heap H locs → lv_has ls 6 [(0, .ref (mo G)), (1, .int y1), (2, .int q.1), (3, .int q.2.1), (4, .int q.2.2.1), (5, .int q.2.2.2)] → W p l e (mRm 3 67) s m args below meth c H locs 0 0 Q (F0 m 22 ls []))) (fun b0 => (∀ b, b0 = b → (∀ (H : Heap) (locs : List Loc) (ls : Array Slot), mR G σ H → va_S (mA G) s.heap H locs → lv_has ls 6 [(0, .ref (mo G)), (1, .int y1), (2, .int b.1), (3, .int b.2.1), (4, .int b.2.2)] → W p l e (mRm 3 67) s m args below meth c H locs 0 0 Q (F0 m 89 ls [])))) (fun q x hf hK hX => wbLX4_bare_22 S hf hK (fun b eb => (hX _ eb) b rfl)) q res h hE89
set_option maxHeartbeats 4000000 in
set_option maxRecDepth 100000 in
theorem met_X4_bare {l : Launch} {G : mG} {x1 : Int32} {σ : mS} {res : Int32} (hf : fX4_bare x1 σ = some res) : mMet l yX4_bare cX4_bare 6 (Option.some Jvm.ClassFile.FieldType.int) (mRm 3 67) G [.ref (mo G), .int x1] σ (some (.int res)) σ := by
  replace hf : (if (fX4_in x1 (0 : Int32) (2 : Int32)) = (0 : Int32) then some (-2 : Int32) else (lpw (LX4_bare_22 x1 σ) ((0 : Int32), (-1 : Int32), (-1 : Int32), (0 : Int32))).bind (fun b5 => if x1 = (0 : Int32) then some b5.1 else if x1 = (1 : Int32) then some b5.2.1 else some b5.2.2)) = some res := hf
  refine m_start (by decide) rfl (Nat.le_of_ble_eq_true rfl) ?_
  intro p e s m args below meth c S hR hS ls hl
  obtain ⟨hx, hb, hml, hown, hts⟩ := S.1.1
  have hl : lv_has ls 6 [(0, .ref (mo G)), (1, .int x1)] := hl
  refine lv_iload_n hx hb dX4_bare_0 rfl (lv_at hl 1 rfl) ?_
  refine lv_iconst (v := 0) hx hb dX4_bare_1 (by decide) ?_
  refine lv_iconst (v := 2) hx hb dX4_bare_2 (by decide) ?_
  refine s_call (As := [.int x1, .int (0 : Int32), .int (2 : Int32)]) (rest := []) S.1.1 (met_X4_in rfl) wi_X4_in q2681 ⟨rfl, rfl⟩ ⟨Nat.le_of_ble_eq_true rfl, Nat.le_of_ble_eq_true rfl⟩ rfl hl.1 rfl (Nat.le_of_ble_eq_true rfl) dX4_bare_3 ⟨Nat.zero_le _, Nat.zero_le _⟩ ?_
  refine lv_if_ne (tgt := 12) hx hb dX4_bare_6 (by decide) (fun c_6 => ?_) (fun c_6 => ?_)
  · replace hf := o_f hf c_6
    refine lv_iconst (v := 0) hx hb dX4_bare_12 (by decide) ?_
    refine lv_istore_n (lv' := [(2, .int (0 : Int32)), (0, .ref (mo G)), (1, .int x1)]) hx hb dX4_bare_13 rfl hl (by decide) rfl (fun ls hl => ?_)
    refine lv_iconst (v := -1) hx hb dX4_bare_14 (by decide) ?_
    refine lv_istore_n (lv' := [(3, .int (-1 : Int32)), (2, .int (0 : Int32)), (0, .ref (mo G)), (1, .int x1)]) hx hb dX4_bare_15 rfl hl (by decide) rfl (fun ls hl => ?_)
    refine lv_iconst (v := -1) hx hb dX4_bare_16 (by decide) ?_
    refine lv_istore (lv' := [(4, .int (-1 : Int32)), (3, .int (-1 : Int32)), (2, .int (0 : Int32)), (0, .ref (mo G)), (1, .int x1)]) hx hb dX4_bare_17 hl (by decide) rfl (fun ls hl => ?_)
    refine lv_iconst (v := 0) hx hb dX4_bare_19 (by decide) ?_
    refine lv_istore (lv' := [(5, .int (0 : Int32)), (4, .int (-1 : Int32)), (3, .int (-1 : Int32)), (2, .int (0 : Int32)), (0, .ref (mo G)), (1, .int x1)]) hx hb dX4_bare_20 hl (by decide) rfl (fun ls hl => ?_)
    refine k_bind hf (fun b5 hb5 hf => ?_)
    refine wLX4_bare_22 S hb5 ?_ _ _ _ hR hS (lv_sub (l' := [(0, .ref (mo G)), (1, .int x1), (2, .int (0 : Int32)), (3, .int (-1 : Int32)), (4, .int (-1 : Int32)), (5, .int (0 : Int32))]) hl [4, 5, 3, 2, 1, 0] rfl)
    · intro b eb; subst eb; intro H locs ls hR hS hl
      refine lv_iload_n hx hb dX4_bare_89 rfl (lv_at hl 1 rfl) ?_
      refine lv_if_ne (tgt := 97) hx hb dX4_bare_90 (by decide) (fun c_90 => ?_) (fun c_90 => ?_)
      · replace hf := o_f hf c_90
        refine lv_iload_n hx hb dX4_bare_97 rfl (lv_at hl 1 rfl) ?_
        refine lv_iconst (v := 1) hx hb dX4_bare_98 (by decide) ?_
        refine lv_icmp_ne (tgt := 106) hx hb dX4_bare_99 (by decide) (fun c_99 => ?_) (fun c_99 => ?_)
        · replace hf := o_f hf c_99
          refine lv_iload hx hb dX4_bare_106 (lv_at hl 4 rfl) ?_
          obtain rfl := Option.some.inj hf
          exact m_iret S hR hS rfl dX4_bare_108
        · replace hf := o_t hf c_99
          refine lv_iload_n hx hb dX4_bare_102 rfl (lv_at hl 3 rfl) ?_
          refine lv_goto (tgt := 108) hx hb dX4_bare_103 (by decide) ?_
          obtain rfl := Option.some.inj hf
          exact m_iret S hR hS rfl dX4_bare_108
      · replace hf := o_t hf c_90
        refine lv_iload_n hx hb dX4_bare_93 rfl (lv_at hl 2 rfl) ?_
        refine lv_goto (tgt := 108) hx hb dX4_bare_94 (by decide) ?_
        obtain rfl := Option.some.inj hf
        exact m_iret S hR hS rfl dX4_bare_108
  · replace hf := o_t hf c_6
    refine lv_bipush (v := -2) hx hb dX4_bare_9 (by decide) ?_
    obtain rfl := Option.some.inj hf
    exact m_iret S hR hS rfl dX4_bare_11

noncomputable def LX4_gcd_6 (q : Int64 × Int64) : Option ((Int64 × Int64) ⊕ (Int64)) :=
  if (lg_cmp q.2 (0 : Int64)) = (0 : Int32) then some (Sum.inr q.1) else if q.2 = 0 then none else (some (lrm q.1 q.2)).bind (fun v1 => some (Sum.inl (q.2, v1)))
noncomputable def fX4_gcd (x0 : Int64) (x2 : Int64) : Option Int64 :=
  (lpw (LX4_gcd_6) (x0, x2)).bind (fun b2 => some b2)
theorem wi_X4_gcd : wInfS yX4_gcd cX4_gcd 10 (Option.some Jvm.ClassFile.FieldType.long) 2 := ⟨q2788, q116, q2789, (by decide +kernel), (by decide +kernel), (by decide +kernel)⟩
set_option maxHeartbeats 4000000 in
set_option maxRecDepth 100000 in
theorem wbLX4_gcd_6 {l : Launch} {p : Program} {e : Env} {s : State} {m : MethodId} {args : Array Value} {below : List Frame} {meth : Method} {c : Code} {Q : State → Prop} {q : Int64 × Int64} {res : (Int64 × Int64) ⊕ (Int64)} (S : wSt RX4 p m c cX4_gcd 10 s args meth (Option.some Jvm.ClassFile.FieldType.long)) (hf : LX4_gcd_6 q = some res) (hK : ∀ q, res = Sum.inl q → (∀ (ls : Array Slot), lv_has ls 10 [(4, .long q.1), (6, .long q.2)] → W p l e (mRm 0 0) s m args below meth c s.heap [] 0 0 Q (F0 m 6 ls []))) (hE31 : ∀ b, res = Sum.inr b → (∀ (ls : Array Slot), lv_has ls 10 [(4, .long b)] → W p l e (mRm 0 0) s m args below meth c s.heap [] 0 0 Q (F0 m 31 ls []))) : (∀ (ls : Array Slot), lv_has ls 10 [(4, .long q.1), (6, .long q.2)] → W p l e (mRm 0 0) s m args below meth c s.heap [] 0 0 Q (F0 m 6 ls [])) := by
  replace hf : (if (lg_cmp q.2 (0 : Int64)) = (0 : Int32) then some (Sum.inr q.1) else if q.2 = 0 then none else (some (lrm q.1 q.2)).bind (fun v1 => some (Sum.inl (q.2, v1)))) = some res := hf
  obtain ⟨hx, hb, hml, hown, hts⟩ := S.1
  intro ls hl
  refine lv_lload hx hb dX4_gcd_6 (lv_at hl 1 rfl) ?_
  refine lv_lconst (v := 0) hx hb dX4_gcd_8 (by decide) ?_
  refine W.lcmp hx hb dX4_gcd_9 ?_
  refine lv_if_eq (tgt := 31) hx hb dX4_gcd_10 (by decide) (fun c_10 => ?_) (fun c_10 => ?_)
  · replace hf := o_t hf c_10
    exact hE31 _ (Option.some.inj hf).symm _ (lv_sub (l' := [(4, .long q.1)]) hl [0] rfl)
  · replace hf := o_f hf c_10
    refine lv_lload hx hb dX4_gcd_13 (lv_at hl 0 rfl) ?_
    refine lv_lload hx hb dX4_gcd_15 (lv_at hl 1 rfl) ?_
    obtain ⟨h0_17, hf⟩ := o_g hf
    refine lv_lrem hx hb dX4_gcd_17 h0_17 ?_
    refine k_bind hf (fun v1 hv1 hf => ?_)
    refine m_nml hv1 ?_
    refine lv_lstore (lv' := [(8, .long v1), (4, .long q.1), (6, .long q.2)]) hx hb dX4_gcd_18 hl (by decide) rfl (fun ls hl => ?_)
    refine lv_lload hx hb dX4_gcd_20 (lv_at hl 2 rfl) ?_
    refine lv_lstore (lv' := [(4, .long q.2), (8, .long v1), (6, .long q.2)]) hx hb dX4_gcd_22 hl (by decide) rfl (fun ls hl => ?_)
    refine lv_lload hx hb dX4_gcd_24 (lv_at hl 1 rfl) ?_
    refine lv_lstore (lv' := [(6, .long v1), (4, .long q.2), (8, .long v1)]) hx hb dX4_gcd_26 hl (by decide) rfl (fun ls hl => ?_)
    refine lv_goto (tgt := 6) hx hb dX4_gcd_28 (by decide) ?_
    exact hK _ (Option.some.inj hf).symm _ (lv_sub (l' := [(4, .long q.2), (6, .long v1)]) hl [1, 0] rfl)
set_option maxHeartbeats 4000000 in
set_option maxRecDepth 100000 in
theorem wLX4_gcd_6 {l : Launch} {p : Program} {e : Env} {s : State} {m : MethodId} {args : Array Value} {below : List Frame} {meth : Method} {c : Code} {Q : State → Prop} {q : Int64 × Int64} {res : Int64} (S : wSt RX4 p m c cX4_gcd 10 s args meth (Option.some Jvm.ClassFile.FieldType.long)) (h : lpw (LX4_gcd_6) q = some res) (hE31 : ∀ b, res = b → (∀ (ls : Array Slot), lv_has ls 10 [(4, .long b)] → W p l e (mRm 0 0) s m args below meth c s.heap [] 0 0 Q (F0 m 31 ls []))) : (∀ (ls : Array Slot), lv_has ls 10 [(4, .long q.1), (6, .long q.2)] → W p l e (mRm 0 0) s m args below meth c s.heap [] 0 0 Q (F0 m 6 ls [])) :=
  lpw_go _ (fun q => (∀ (ls : Array Slot), lv_has ls 10 [(4, .long q.1), (6, .long q.2)] → W p l e (mRm 0 0) s m args below meth c s.heap [] 0 0 Q (F0 m 6 ls []))) (fun b0 => (∀ b, b0 = b → (∀ (ls : Array Slot), lv_has ls 10 [(4, .long b)] → W p l e (mRm 0 0) s m args below meth c s.heap [] 0 0 Q (F0 m 31 ls [])))) (fun q x hf hK hX => wbLX4_gcd_6 S hf hK (fun b eb => (hX _ eb) b rfl)) q res h hE31
set_option maxHeartbeats 4000000 in
set_option maxRecDepth 100000 in
theorem met_X4_gcd {l : Launch} {x0 : Int64} {x2 : Int64} {res : Int64} (hf : fX4_gcd x0 x2 = some res) : sMet l yX4_gcd cX4_gcd 10 (Option.some Jvm.ClassFile.FieldType.long) (mRm 0 0) [.long x0, .long x2] (some (.long res)) := by
  replace hf : ((lpw (LX4_gcd_6) (x0, x2)).bind (fun b2 => some b2)) = some res := hf
  refine s_start (by decide) (Nat.le_of_ble_eq_true rfl) ?_
  intro p e s m args below meth c S ls hl
  obtain ⟨hx, hb, hml, hown, hts⟩ := S.1
  have hl : lv_has ls 10 [(0, .long x0), (2, .long x2)] := hl
  refine lv_lload_n hx hb dX4_gcd_0 rfl (lv_at hl 0 rfl) ?_
  refine lv_lstore (lv' := [(4, .long x0), (0, .long x0), (2, .long x2)]) hx hb dX4_gcd_1 hl (by decide) rfl (fun ls hl => ?_)
  refine lv_lload_n hx hb dX4_gcd_3 rfl (lv_at hl 2 rfl) ?_
  refine lv_lstore (lv' := [(6, .long x2), (4, .long x0), (0, .long x0), (2, .long x2)]) hx hb dX4_gcd_4 hl (by decide) rfl (fun ls hl => ?_)
  refine k_bind hf (fun b2 hb2 hf => ?_)
  refine wLX4_gcd_6 S hb2 ?_ _ (lv_sub (l' := [(4, .long x0), (6, .long x2)]) hl [1, 0] rfl)
  · intro b eb; subst eb; intro ls hl
    refine lv_lload hx hb dX4_gcd_31 (lv_at hl 0 rfl) ?_
    obtain rfl := Option.some.inj hf
    exact s_lret S dX4_gcd_33

noncomputable def LX4_share_27 (y1 : Int32) (y4 : Int64) (σ : mS) (q : Int64 × Int32) : Option ((Int64 × Int32) ⊕ (Int64)) :=
  if (fX4_all σ) < q.2 then some (Sum.inr q.1) else (fX4_covers q.2 σ).bind (fun v2 => if v2 = (0 : Int32) then (some (q.1 + (0 : Int64))).bind (fun v3 => some (Sum.inl (v3, q.2 + (1 : Int32)))) else (some (q.1 + (1 : Int64))).bind (fun v4 => some (Sum.inl (v4, q.2 + (1 : Int32)))))
noncomputable def fX4_share (x1 : Int32) (σ : mS) : Option Int64 :=
  if (fX4_in x1 (0 : Int32) (1 : Int32)) = (0 : Int32) then some (-2 : Int64) else (some (((fX4_all σ).toInt64) + (1 : Int64))).bind (fun v1 => (lpw (LX4_share_27 x1 v1 σ) ((0 : Int64), (0 : Int32))).bind (fun b5 => if x1 = (0 : Int32) then (fX4_gcd b5 v1).bind (fun v7 => if v7 = 0 then none else some (b5 / v7)) else (fX4_gcd b5 v1).bind (fun v6 => if v6 = 0 then none else some (v1 / v6))))
theorem wi_X4_share : wInfV yX4_share cX4_share 7 (Option.some Jvm.ClassFile.FieldType.long) 1 := ⟨q2783, q2784, q116, q2785, (by decide +kernel), (by decide +kernel), (by decide +kernel)⟩
set_option maxHeartbeats 4000000 in
set_option maxRecDepth 100000 in
theorem wbLX4_share_27 {l : Launch} {G : mG} {p : Program} {e : Env} {s : State} {m : MethodId} {args : Array Value} {below : List Frame} {meth : Method} {c : Code} {Q : State → Prop} {y1 : Int32} {y4 : Int64} {σ : mS} {q : Int64 × Int32} {res : (Int64 × Int32) ⊕ (Int64)} (S : mSt G p m c cX4_share 7 s args meth (Option.some Jvm.ClassFile.FieldType.long)) (hf : LX4_share_27 y1 y4 σ q = some res) (hK : ∀ q, res = Sum.inl q → (∀ (H : Heap) (locs : List Loc) (ls : Array Slot), mR G σ H → va_S (mA G) s.heap H locs → lv_has ls 7 [(0, .ref (mo G)), (1, .int y1), (2, .long q.1), (4, .long y4), (6, .int q.2)] → W p l e (mRm 2 44) s m args below meth c H locs 0 0 Q (F0 m 27 ls []))) (hE59 : ∀ b, res = Sum.inr b → (∀ (H : Heap) (locs : List Loc) (ls : Array Slot), mR G σ H → va_S (mA G) s.heap H locs → lv_has ls 7 [(0, .ref (mo G)), (1, .int y1), (2, .long b), (4, .long y4)] → W p l e (mRm 2 44) s m args below meth c H locs 0 0 Q (F0 m 59 ls []))) : (∀ (H : Heap) (locs : List Loc) (ls : Array Slot), mR G σ H → va_S (mA G) s.heap H locs → lv_has ls 7 [(0, .ref (mo G)), (1, .int y1), (2, .long q.1), (4, .long y4), (6, .int q.2)] → W p l e (mRm 2 44) s m args below meth c H locs 0 0 Q (F0 m 27 ls [])) := by
  replace hf : (if (fX4_all σ) < q.2 then some (Sum.inr q.1) else (fX4_covers q.2 σ).bind (fun v2 => if v2 = (0 : Int32) then (some (q.1 + (0 : Int64))).bind (fun v3 => some (Sum.inl (v3, q.2 + (1 : Int32)))) else (some (q.1 + (1 : Int64))).bind (fun v4 => some (Sum.inl (v4, q.2 + (1 : Int32)))))) = some res := hf
  obtain ⟨hx, hb, hml, hown, hts⟩ := S.1.1
  intro H locs ls hR hS hl
  refine lv_iload hx hb dX4_share_27 (lv_at hl 4 rfl) ?_
  refine lv_aload_n hx hb dX4_share_29 rfl (lv_at hl 0 rfl) ?_
  refine m_call (As := []) (rest := [.int q.2]) S hR hS (met_X4_all rfl) wi_X4_all rfl q2738 ⟨rfl, rfl⟩ ⟨Nat.le_of_ble_eq_true rfl, Nat.le_of_ble_eq_true rfl⟩ rfl hl.1 rfl (Nat.le_of_ble_eq_true rfl) dX4_share_30 (fun H locs hR hS => ?_)
  refine lv_icmp_gt (tgt := 59) hx hb dX4_share_33 (by decide) (fun c_33 => ?_) (fun c_33 => ?_)
  · replace hf := o_t hf c_33
    exact hE59 _ (Option.some.inj hf).symm _ _ _ hR hS (lv_sub (l' := [(0, .ref (mo G)), (1, .int y1), (2, .long q.1), (4, .long y4)]) hl [0, 1, 2, 3] rfl)
  · replace hf := o_f hf c_33
    refine lv_lload_n hx hb dX4_share_36 rfl (lv_at hl 2 rfl) ?_
    refine lv_aload_n hx hb dX4_share_37 rfl (lv_at hl 0 rfl) ?_
    refine lv_iload hx hb dX4_share_38 (lv_at hl 4 rfl) ?_
    refine k_bind hf (fun v2 hv2 hf => ?_)
    refine m_call (As := [.int q.2]) (rest := [.long q.1]) S hR hS (met_X4_covers hv2) wi_X4_covers rfl q2746 ⟨rfl, rfl⟩ ⟨Nat.le_of_ble_eq_true rfl, Nat.le_of_ble_eq_true rfl⟩ rfl hl.1 rfl (Nat.le_of_ble_eq_true rfl) dX4_share_40 (fun H locs hR hS => ?_)
    refine lv_if_eq (tgt := 50) hx hb dX4_share_43 (by decide) (fun c_43 => ?_) (fun c_43 => ?_)
    · replace hf := o_t hf c_43
      refine lv_lconst (v := 0) hx hb dX4_share_50 (by decide) ?_
      refine lv_ladd hx hb dX4_share_51 ?_
      refine k_bind hf (fun v3 hv3 hf => ?_)
      refine m_nml hv3 ?_
      refine lv_lstore_n (lv' := [(2, .long v3), (0, .ref (mo G)), (1, .int y1), (4, .long y4), (6, .int q.2)]) hx hb dX4_share_52 rfl hl (by decide) rfl (fun ls hl => ?_)
      refine lv_iinc (lv' := [(6, .int (q.2 + (1 : Int32))), (2, .long v3), (0, .ref (mo G)), (1, .int y1), (4, .long y4)]) hx hb dX4_share_53 hl (k := 4) rfl (m_inc (by decide)) (by decide) rfl (fun ls hl => ?_)
      refine lv_goto (tgt := 27) hx hb dX4_share_56 (by decide) ?_
      exact hK _ (Option.some.inj hf).symm _ _ _ hR hS (lv_sub (l' := [(0, .ref (mo G)), (1, .int y1), (2, .long v3), (4, .long y4), (6, .int (q.2 + (1 : Int32)))]) hl [2, 3, 1, 4, 0] rfl)
    · replace hf := o_f hf c_43
      refine lv_lconst (v := 1) hx hb dX4_share_46 (by decide) ?_
      refine lv_goto (tgt := 51) hx hb dX4_share_47 (by decide) ?_
      refine lv_ladd hx hb dX4_share_51 ?_
      refine k_bind hf (fun v4 hv4 hf => ?_)
      refine m_nml hv4 ?_
      refine lv_lstore_n (lv' := [(2, .long v4), (0, .ref (mo G)), (1, .int y1), (4, .long y4), (6, .int q.2)]) hx hb dX4_share_52 rfl hl (by decide) rfl (fun ls hl => ?_)
      refine lv_iinc (lv' := [(6, .int (q.2 + (1 : Int32))), (2, .long v4), (0, .ref (mo G)), (1, .int y1), (4, .long y4)]) hx hb dX4_share_53 hl (k := 4) rfl (m_inc (by decide)) (by decide) rfl (fun ls hl => ?_)
      refine lv_goto (tgt := 27) hx hb dX4_share_56 (by decide) ?_
      exact hK _ (Option.some.inj hf).symm _ _ _ hR hS (lv_sub (l' := [(0, .ref (mo G)), (1, .int y1), (2, .long v4), (4, .long y4), (6, .int (q.2 + (1 : Int32)))]) hl [2, 3, 1, 4, 0] rfl)
set_option maxHeartbeats 4000000 in
set_option maxRecDepth 100000 in
theorem wLX4_share_27 {l : Launch} {G : mG} {p : Program} {e : Env} {s : State} {m : MethodId} {args : Array Value} {below : List Frame} {meth : Method} {c : Code} {Q : State → Prop} {y1 : Int32} {y4 : Int64} {σ : mS} {q : Int64 × Int32} {res : Int64} (S : mSt G p m c cX4_share 7 s args meth (Option.some Jvm.ClassFile.FieldType.long)) (h : lpw (LX4_share_27 y1 y4 σ) q = some res) (hE59 : ∀ b, res = b → (∀ (H : Heap) (locs : List Loc) (ls : Array Slot), mR G σ H → va_S (mA G) s.heap H locs → lv_has ls 7 [(0, .ref (mo G)), (1, .int y1), (2, .long b), (4, .long y4)] → W p l e (mRm 2 44) s m args below meth c H locs 0 0 Q (F0 m 59 ls []))) : (∀ (H : Heap) (locs : List Loc) (ls : Array Slot), mR G σ H → va_S (mA G) s.heap H locs → lv_has ls 7 [(0, .ref (mo G)), (1, .int y1), (2, .long q.1), (4, .long y4), (6, .int q.2)] → W p l e (mRm 2 44) s m args below meth c H locs 0 0 Q (F0 m 27 ls [])) :=
  lpw_go _ (fun q => (∀ (H : Heap) (locs : List Loc) (ls : Array Slot), mR G σ H → va_S (mA G) s.heap H locs → lv_has ls 7 [(0, .ref (mo G)), (1, .int y1), (2, .long q.1), (4, .long y4), (6, .int q.2)] → W p l e (mRm 2 44) s m args below meth c H locs 0 0 Q (F0 m 27 ls []))) (fun b0 => (∀ b, b0 = b → (∀ (H : Heap) (locs : List Loc) (ls : Array Slot), mR G σ H → va_S (mA G) s.heap H locs → lv_has ls 7 [(0, .ref (mo G)), (1, .int y1), (2, .long b), (4, .long y4)] → W p l e (mRm 2 44) s m args below meth c H locs 0 0 Q (F0 m 59 ls [])))) (fun q x hf hK hX => wbLX4_share_27 S hf hK (fun b eb => (hX _ eb) b rfl)) q res h hE59
set_option maxHeartbeats 4000000 in
set_option maxRecDepth 100000 in
theorem met_X4_share {l : Launch} {G : mG} {x1 : Int32} {σ : mS} {res : Int64} (hf : fX4_share x1 σ = some res) : mMet l yX4_share cX4_share 7 (Option.some Jvm.ClassFile.FieldType.long) (mRm 2 44) G [.ref (mo G), .int x1] σ (some (.long res)) σ := by
  replace hf : (if (fX4_in x1 (0 : Int32) (1 : Int32)) = (0 : Int32) then some (-2 : Int64) else (some (((fX4_all σ).toInt64) + (1 : Int64))).bind (fun v1 => (lpw (LX4_share_27 x1 v1 σ) ((0 : Int64), (0 : Int32))).bind (fun b5 => if x1 = (0 : Int32) then (fX4_gcd b5 v1).bind (fun v7 => if v7 = 0 then none else some (b5 / v7)) else (fX4_gcd b5 v1).bind (fun v6 => if v6 = 0 then none else some (v1 / v6))))) = some res := hf
  refine m_start (by decide) rfl (Nat.le_of_ble_eq_true rfl) ?_
  intro p e s m args below meth c S hR hS ls hl
  obtain ⟨hx, hb, hml, hown, hts⟩ := S.1.1
  have hl : lv_has ls 7 [(0, .ref (mo G)), (1, .int x1)] := hl
  refine lv_iload_n hx hb dX4_share_0 rfl (lv_at hl 1 rfl) ?_
  refine lv_iconst (v := 0) hx hb dX4_share_1 (by decide) ?_
  refine lv_iconst (v := 1) hx hb dX4_share_2 (by decide) ?_
  refine s_call (As := [.int x1, .int (0 : Int32), .int (1 : Int32)]) (rest := []) S.1.1 (met_X4_in rfl) wi_X4_in q2681 ⟨rfl, rfl⟩ ⟨Nat.le_of_ble_eq_true rfl, Nat.le_of_ble_eq_true rfl⟩ rfl hl.1 rfl (Nat.le_of_ble_eq_true rfl) dX4_share_3 ⟨Nat.zero_le _, Nat.zero_le _⟩ ?_
  refine lv_if_ne (tgt := 13) hx hb dX4_share_6 (by decide) (fun c_6 => ?_) (fun c_6 => ?_)
  · replace hf := o_f hf c_6
    refine lv_lconst (v := 0) hx hb dX4_share_13 (by decide) ?_
    refine lv_lstore_n (lv' := [(2, .long (0 : Int64)), (0, .ref (mo G)), (1, .int x1)]) hx hb dX4_share_14 rfl hl (by decide) rfl (fun ls hl => ?_)
    refine lv_aload_n hx hb dX4_share_15 rfl (lv_at hl 1 rfl) ?_
    refine m_call (As := []) (rest := []) S hR hS (met_X4_all rfl) wi_X4_all rfl q2738 ⟨rfl, rfl⟩ ⟨Nat.le_of_ble_eq_true rfl, Nat.le_of_ble_eq_true rfl⟩ rfl hl.1 rfl (Nat.le_of_ble_eq_true rfl) dX4_share_16 (fun H locs hR hS => ?_)
    refine lv_i2l hx hb dX4_share_19 rfl ?_
    refine lv_lconst (v := 1) hx hb dX4_share_20 (by decide) ?_
    refine lv_ladd hx hb dX4_share_21 ?_
    refine k_bind hf (fun v1 hv1 hf => ?_)
    refine m_nml hv1 ?_
    refine lv_lstore (lv' := [(4, .long v1), (2, .long (0 : Int64)), (0, .ref (mo G)), (1, .int x1)]) hx hb dX4_share_22 hl (by decide) rfl (fun ls hl => ?_)
    refine lv_iconst (v := 0) hx hb dX4_share_24 (by decide) ?_
    refine lv_istore (lv' := [(6, .int (0 : Int32)), (4, .long v1), (2, .long (0 : Int64)), (0, .ref (mo G)), (1, .int x1)]) hx hb dX4_share_25 hl (by decide) rfl (fun ls hl => ?_)
    refine k_bind hf (fun b5 hb5 hf => ?_)
    refine wLX4_share_27 S hb5 ?_ _ _ _ hR hS (lv_sub (l' := [(0, .ref (mo G)), (1, .int x1), (2, .long (0 : Int64)), (4, .long v1), (6, .int (0 : Int32))]) hl [3, 4, 2, 1, 0] rfl)
    · intro b eb; subst eb; intro H locs ls hR hS hl
      refine lv_iload_n hx hb dX4_share_59 rfl (lv_at hl 1 rfl) ?_
      refine lv_if_ne (tgt := 67) hx hb dX4_share_60 (by decide) (fun c_60 => ?_) (fun c_60 => ?_)
      · replace hf := o_f hf c_60
        refine lv_lload hx hb dX4_share_67 (lv_at hl 3 rfl) ?_
        refine lv_lload_n hx hb dX4_share_69 rfl (lv_at hl 2 rfl) ?_
        refine lv_lload hx hb dX4_share_70 (lv_at hl 3 rfl) ?_
        refine k_bind hf (fun v6 hv6 hf => ?_)
        refine s_call (As := [.long b5, .long v1]) (rest := [.long v1]) S.1.1 (met_X4_gcd hv6) wi_X4_gcd q2787 ⟨rfl, rfl⟩ ⟨Nat.le_of_ble_eq_true rfl, Nat.le_of_ble_eq_true rfl⟩ rfl hl.1 rfl (Nat.le_of_ble_eq_true rfl) dX4_share_72 ⟨Nat.zero_le _, Nat.zero_le _⟩ ?_
        obtain ⟨h0_75, hf⟩ := o_g hf
        refine lv_ldiv hx hb dX4_share_75 h0_75 ?_
        obtain rfl := Option.some.inj hf
        exact m_lret S hR hS dX4_share_76
      · replace hf := o_t hf c_60
        refine lv_lload_n hx hb dX4_share_63 rfl (lv_at hl 2 rfl) ?_
        refine lv_goto (tgt := 69) hx hb dX4_share_64 (by decide) ?_
        refine lv_lload_n hx hb dX4_share_69 rfl (lv_at hl 2 rfl) ?_
        refine lv_lload hx hb dX4_share_70 (lv_at hl 3 rfl) ?_
        refine k_bind hf (fun v7 hv7 hf => ?_)
        refine s_call (As := [.long b5, .long v1]) (rest := [.long b5]) S.1.1 (met_X4_gcd hv7) wi_X4_gcd q2787 ⟨rfl, rfl⟩ ⟨Nat.le_of_ble_eq_true rfl, Nat.le_of_ble_eq_true rfl⟩ rfl hl.1 rfl (Nat.le_of_ble_eq_true rfl) dX4_share_72 ⟨Nat.zero_le _, Nat.zero_le _⟩ ?_
        obtain ⟨h0_75, hf⟩ := o_g hf
        refine lv_ldiv hx hb dX4_share_75 h0_75 ?_
        obtain rfl := Option.some.inj hf
        exact m_lret S hR hS dX4_share_76
  · replace hf := o_t hf c_6
    refine lv_ldc2 hx hb hown (hts _ q2786) dX4_share_9 ?_
    obtain rfl := Option.some.inj hf
    exact m_lret S hR hS dX4_share_12
