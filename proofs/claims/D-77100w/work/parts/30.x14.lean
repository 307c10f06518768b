/-! the component, walked: X0_judge X24_init X0_shelf X0_heldOn X0_taken_2 X0_lengthAs X1_become X0_image X0_back X3_init X5_kind X5_cost X6_kind X6_cost X7_kind -/

noncomputable def LX0_judge_32 (y2 : Option Nat) (σ : xS) (q : Int32 × Int32) : Option ((Int32 × Int32) ⊕ ((Int32) ⊕ (Int32))) :=
  (fX0_length y2 σ).bind (fun v4 => if v4 ≤ q.2 then some (Sum.inr (Sum.inr q.1)) else (fX0_isHalf y2 q.2 σ).bind (fun v5 => if v5 = (0 : Int32) then some (Sum.inr (Sum.inl q.2)) else (fX0_number y2 q.2 σ).bind (fun v6 => (some (q.1 + v6)).bind (fun v7 => some (Sum.inl (v7, q.2 + (1 : Int32)))))))
noncomputable def fX0_judge (x1 : Int32) (σ : xS) : Option (Int32 × xS) :=
  if (fX0_isSheet x1) = (0 : Int32) then some ((-2 : Int32), σ) else (xlr σ 8 x1).bind (fun v1 => (v1).bind (fun a2 => (xgR σ [(3, 0)] a2).bind (fun v3 => if v3 = none then some ((-11 : Int32), σ) else (lpw (LX0_judge_32 v3 σ) ((0 : Int32), (0 : Int32))).bind ((fun e => Sum.elim (fun b9 => some (((1 : Int32) + b9), σ)) (fun b10 => (fX0_length v3 σ).bind (fun v11 => if v11 = (xN σ (0 : Fin 3) 2) then (fX1_all (0 : Fin 3) σ).bind (fun v12 => (fX0_halvesOf v12 σ).bind (fun e13 => if b10 = e13.1 then some ((0 : Int32), e13.2) else some ((100 : Int32), e13.2))) else some ((100 : Int32), σ))) e)))))
theorem wi_X0_judge : wInfV yX0_judge cX0_judge 5 (Option.some Jvm.ClassFile.FieldType.int) 1 := ⟨q2462, q2463, q106, q2464, (by decide +kernel), (by decide +kernel), (by decide +kernel)⟩
set_option maxHeartbeats 4000000 in
set_option maxRecDepth 100000 in
theorem r0_X0_judge {x1 : Int32} {σ : xS} {res : Int32 × xS} (hf : fX0_judge x1 σ = some res) : rl0 σ res.2 := by
  replace hf : (if (fX0_isSheet x1) = (0 : Int32) then some ((-2 : Int32), σ) else (xlr σ 8 x1).bind (fun v1 => (v1).bind (fun a2 => (xgR σ [(3, 0)] a2).bind (fun v3 => if v3 = none then some ((-11 : Int32), σ) else (lpw (LX0_judge_32 v3 σ) ((0 : Int32), (0 : Int32))).bind ((fun e => Sum.elim (fun b9 => some (((1 : Int32) + b9), σ)) (fun b10 => (fX0_length v3 σ).bind (fun v11 => if v11 = (xN σ (0 : Fin 3) 2) then (fX1_all (0 : Fin 3) σ).bind (fun v12 => (fX0_halvesOf v12 σ).bind (fun e13 => if b10 = e13.1 then some ((0 : Int32), e13.2) else some ((100 : Int32), e13.2))) else some ((100 : Int32), σ))) e)))))) = some res := hf
  by_cases c0 : (fX0_isSheet x1) = (0 : Int32)
  · replace hf := o_t hf c0
    obtain rfl := Option.some.inj hf
    exact rl0.rf _
  · replace hf := o_f hf c0
    refine k_bind hf (fun v1 hv1 hf => ?_)
    refine k_bind hf (fun a2 ha2 hf => ?_)
    refine k_bind hf (fun v3 hv3 hf => ?_)
    by_cases c0 : v3 = none
    · replace hf := o_t hf c0
      obtain rfl := Option.some.inj hf
      exact rl0.rf _
    · replace hf := o_f hf c0
      refine k_bind hf (fun b8 hb8 hf => ?_)
      rcases b8 with b9 | b10
      · replace hf := o_l hf
        obtain rfl := Option.some.inj hf
        exact rl0.rf _
      · replace hf := o_r hf
        refine k_bind hf (fun v11 hv11 hf => ?_)
        by_cases c0 : v11 = (xN σ (0 : Fin 3) 2)
        · replace hf := o_t hf c0
          refine k_bind hf (fun v12 hv12 hf => ?_)
          refine k_bind hf (fun e13 he13 hf => ?_)
          refine rl0.tr (r0_X0_halvesOf he13) ?_
          by_cases c0 : b10 = e13.1
          · replace hf := o_t hf c0
            obtain rfl := Option.some.inj hf
            exact rl0.rf _
          · replace hf := o_f hf c0
            obtain rfl := Option.some.inj hf
            exact rl0.rf _
        · replace hf := o_f hf c0
          obtain rfl := Option.some.inj hf
          exact rl0.rf _
set_option maxHeartbeats 4000000 in
set_option maxRecDepth 100000 in
theorem wbLX0_judge_32 {l : Launch} {E : xG} {p : Program} {e : Env} {s : State} {m : MethodId} {args : Array Value} {below : List Frame} {meth : Method} {c : Code} {Q : State → Prop} {n0 s0 nf sf : Nat} {y2 : Option Nat} {σ : xS} {q : Int32 × Int32} {res : (Int32 × Int32) ⊕ ((Int32) ⊕ (Int32))} (S : xSt E RX0 p m c cX0_judge 5 s args meth (Option.some Jvm.ClassFile.FieldType.int)) (hf : LX0_judge_32 y2 σ q = some res) (hK : ∀ q, res = Sum.inl q → (∀ (H : Heap) (locs : List Loc) (cells slots : Nat) (ls : Array Slot), xR E σ H → va_S (xAA E) s.heap H locs → XN cells slots n0 s0 nf sf σ → lv_has ls 5 [(0, .ref (xo E)), (2, va_rf y2), (3, .int q.1), (4, .int q.2)] → W p l e (xRm 22 507 (nf - n0) (sf - s0)) s m args below meth c H locs cells slots Q (F0 m 32 ls []))) (hE51 : ∀ b, res = Sum.inr (Sum.inl b) → (∀ (H : Heap) (locs : List Loc) (cells slots : Nat) (ls : Array Slot), xR E σ H → va_S (xAA E) s.heap H locs → XN cells slots n0 s0 nf sf σ → lv_has ls 5 [(4, .int b)] → W p l e (xRm 22 507 (nf - n0) (sf - s0)) s m args below meth c H locs cells slots Q (F0 m 51 ls []))) (hE71 : ∀ b, res = Sum.inr (Sum.inr b) → (∀ (H : Heap) (locs : List Loc) (cells slots : Nat) (ls : Array Slot), xR E σ H → va_S (xAA E) s.heap H locs → XN cells slots n0 s0 nf sf σ → lv_has ls 5 [(0, .ref (xo E)), (2, va_rf y2), (3, .int b)] → W p l e (xRm 22 507 (nf - n0) (sf - s0)) s m args below meth c H locs cells slots Q (F0 m 71 ls []))) : (∀ (H : Heap) (locs : List Loc) (cells slots : Nat) (ls : Array Slot), xR E σ H → va_S (xAA E) s.heap H locs → XN cells slots n0 s0 nf sf σ → lv_has ls 5 [(0, .ref (xo E)), (2, va_rf y2), (3, .int q.1), (4, .int q.2)] → W p l e (xRm 22 507 (nf - n0) (sf - s0)) s m args below meth c H locs cells slots Q (F0 m 32 ls [])) := by
  replace hf : ((fX0_length y2 σ).bind (fun v4 => if v4 ≤ q.2 then some (Sum.inr (Sum.inr q.1)) else (fX0_isHalf y2 q.2 σ).bind (fun v5 => if v5 = (0 : Int32) then some (Sum.inr (Sum.inl q.2)) else (fX0_number y2 q.2 σ).bind (fun v6 => (some (q.1 + v6)).bind (fun v7 => some (Sum.inl (v7, q.2 + (1 : Int32)))))))) = some res := hf
  obtain ⟨hx, hb, hml, hown, hts⟩ := S.1.1
  intro H locs cells slots ls hR hS hn hl
  refine lv_iload hx hb dX0_judge_32 (lv_at hl 3 rfl) ?_
  refine x_aload_n (r := y2) hx hb dX0_judge_34 rfl (lv_at hl 1 rfl) ?_
  refine k_bind hf (fun v4 hv4 hf => ?_)
  refine x_callS (As := [va_rf y2]) (rest := [.int q.2]) S hR hS hn (met_X0_length hv4) (rl1.rf _) (hn.b (rl0.rf _)) wi_X0_length q1571 ⟨Nat.le_of_ble_eq_true rfl, Nat.le_of_ble_eq_true rfl⟩ rfl hl.1 rfl (Nat.le_of_ble_eq_true rfl) dX0_judge_35 (fun H locs cells slots hR hS hn => ?_)
  refine lv_icmp_ge (tgt := 71) hx hb dX0_judge_38 (by decide) (fun c_38 => ?_) (fun c_38 => ?_)
  · replace hf := o_t hf c_38
    exact hE71 _ (Option.some.inj hf).symm _ _ _ _ _ hR hS hn (lv_sub (l' := [(0, .ref (xo E)), (2, va_rf y2), (3, .int q.1)]) hl [0, 1, 2] rfl)
  · replace hf := o_f hf c_38
    refine lv_aload_n hx hb dX0_judge_41 rfl (lv_at hl 0 rfl) ?_
    refine x_aload_n (r := y2) hx hb dX0_judge_42 rfl (lv_at hl 1 rfl) ?_
    refine lv_iload hx hb dX0_judge_43 (lv_at hl 3 rfl) ?_
    refine k_bind hf (fun v5 hv5 hf => ?_)
    refine x_call (C := RX0) (As := [va_rf y2, .int q.2]) (rest := []) S hR hS hn (met_X0_isHalf hv5) (rl1.rf _) (hn.b (rl0.rf _)) wi_X0_isHalf (xrc S.2 hR (ci := 0) rfl (Or.inl ⟨rfl, rfl⟩)) rfl q2465 ⟨Nat.le_of_ble_eq_true rfl, Nat.le_of_ble_eq_true rfl⟩ rfl hl.1 rfl (Nat.le_of_ble_eq_true rfl) dX0_judge_45 (fun H locs cells slots hR hS hn => ?_)
    refine lv_if_ne (tgt := 56) hx hb dX0_judge_48 (by decide) (fun c_48 => ?_) (fun c_48 => ?_)
    · replace hf := o_f hf c_48
      refine lv_iload_n hx hb dX0_judge_56 rfl (lv_at hl 2 rfl) ?_
      refine x_aload_n (r := y2) hx hb dX0_judge_57 rfl (lv_at hl 1 rfl) ?_
      refine lv_iload hx hb dX0_judge_58 (lv_at hl 3 rfl) ?_
      refine k_bind hf (fun v6 hv6 hf => ?_)
      refine x_callS (As := [va_rf y2, .int q.2]) (rest := [.int q.1]) S hR hS hn (met_X0_number hv6) (rl1.rf _) (hn.b (rl0.rf _)) wi_X0_number q1577 ⟨Nat.le_of_ble_eq_true rfl, Nat.le_of_ble_eq_true rfl⟩ rfl hl.1 rfl (Nat.le_of_ble_eq_true rfl) dX0_judge_60 (fun H locs cells slots hR hS hn => ?_)
      refine lv_iadd hx hb dX0_judge_63 ?_
      refine k_bind hf (fun v7 hv7 hf => ?_)
      refine m_nmi hv7 ?_
      refine lv_istore_n (lv' := [(3, .int v7), (0, .ref (xo E)), (2, va_rf y2), (4, .int q.2)]) hx hb dX0_judge_64 rfl hl (by decide) rfl (fun ls hl => ?_)
      refine lv_iinc (lv' := [(4, .int (q.2 + (1 : Int32))), (3, .int v7), (0, .ref (xo E)), (2, va_rf y2)]) hx hb dX0_judge_65 hl (k := 3) rfl (m_inc (by decide)) (by decide) rfl (fun ls hl => ?_)
      refine lv_goto (tgt := 32) hx hb dX0_judge_68 (by decide) ?_
      exact hK _ (Option.some.inj hf).symm _ _ _ _ _ hR hS hn (lv_sub (l' := [(0, .ref (xo E)), (2, va_rf y2), (3, .int v7), (4, .int (q.2 + (1 : Int32)))]) hl [2, 3, 1, 0] rfl)
    · replace hf := o_t hf c_48
      exact hE51 _ (Option.some.inj hf).symm _ _ _ _ _ hR hS hn (lv_sub (l' := [(4, .int q.2)]) hl [3] rfl)
set_option maxHeartbeats 4000000 in
set_option maxRecDepth 100000 in
theorem wLX0_judge_32 {l : Launch} {E : xG} {p : Program} {e : Env} {s : State} {m : MethodId} {args : Array Value} {below : List Frame} {meth : Method} {c : Code} {Q : State → Prop} {n0 s0 nf sf : Nat} {y2 : Option Nat} {σ : xS} {q : Int32 × Int32} {res : (Int32) ⊕ (Int32)} (S : xSt E RX0 p m c cX0_judge 5 s args meth (Option.some Jvm.ClassFile.FieldType.int)) (h : lpw (LX0_judge_32 y2 σ) q = some res) (hE51 : ∀ b, res = (Sum.inl b) → (∀ (H : Heap) (locs : List Loc) (cells slots : Nat) (ls : Array Slot), xR E σ H → va_S (xAA E) s.heap H locs → XN cells slots n0 s0 nf sf σ → lv_has ls 5 [(4, .int b)] → W p l e (xRm 22 507 (nf - n0) (sf - s0)) s m args below meth c H locs cells slots Q (F0 m 51 ls []))) (hE71 : ∀ b, res = (Sum.inr b) → (∀ (H : Heap) (locs : List Loc) (cells slots : Nat) (ls : Array Slot), xR E σ H → va_S (xAA E) s.heap H locs → XN cells slots n0 s0 nf sf σ → lv_has ls 5 [(0, .ref (xo E)), (2, va_rf y2), (3, .int b)] → W p l e (xRm 22 507 (nf - n0) (sf - s0)) s m args below meth c H locs cells slots Q (F0 m 71 ls []))) : (∀ (H : Heap) (locs : List Loc) (cells slots : Nat) (ls : Array Slot), xR E σ H → va_S (xAA E) s.heap H locs → XN cells slots n0 s0 nf sf σ → lv_has ls 5 [(0, .ref (xo E)), (2, va_rf y2), (3, .int q.1), (4, .int q.2)] → W p l e (xRm 22 507 (nf - n0) (sf - s0)) s m args below meth c H locs cells slots Q (F0 m 32 ls [])) :=
  lpw_go _ (fun q => (∀ (H : Heap) (locs : List Loc) (cells slots : Nat) (ls : Array Slot), xR E σ H → va_S (xAA E) s.heap H locs → XN cells slots n0 s0 nf sf σ → lv_has ls 5 [(0, .ref (xo E)), (2, va_rf y2), (3, .int q.1), (4, .int q.2)] → W p l e (xRm 22 507 (nf - n0) (sf - s0)) s m args below meth c H locs cells slots Q (F0 m 32 ls []))) (fun b0 => (∀ b, b0 = (Sum.inl b) → (∀ (H : Heap) (locs : List Loc) (cells slots : Nat) (ls : Array Slot), xR E σ H → va_S (xAA E) s.heap H locs → XN cells slots n0 s0 nf sf σ → lv_has ls 5 [(4, .int b)] → W p l e (xRm 22 507 (nf - n0) (sf - s0)) s m args below meth c H locs cells slots Q (F0 m 51 ls []))) ∧ (∀ b, b0 = (Sum.inr b) → (∀ (H : Heap) (locs : List Loc) (cells slots : Nat) (ls : Array Slot), xR E σ H → va_S (xAA E) s.heap H locs → XN cells slots n0 s0 nf sf σ → lv_has ls 5 [(0, .ref (xo E)), (2, va_rf y2), (3, .int b)] → W p l e (xRm 22 507 (nf - n0) (sf - s0)) s m args below meth c H locs cells slots Q (F0 m 71 ls [])))) (fun q x hf hK hX => wbLX0_judge_32 S hf hK (fun b eb => (hX _ eb).1 b rfl) (fun b eb => (hX _ eb).2 b rfl)) q res h ⟨hE51, hE71⟩
set_option maxHeartbeats 4000000 in
set_option maxRecDepth 100000 in
theorem met_X0_judge {l : Launch} {E : xG} {x1 : Int32} {σ : xS} {res : Int32 × xS} (hf : fX0_judge x1 σ = some res) : xMet l yX0_judge cX0_judge 5 (Option.some Jvm.ClassFile.FieldType.int) 22 507 E [.ref (xo E), .int x1] σ (some (.int res.1)) res.2 := by
  replace hf : (if (fX0_isSheet x1) = (0 : Int32) then some ((-2 : Int32), σ) else (xlr σ 8 x1).bind (fun v1 => (v1).bind (fun a2 => (xgR σ [(3, 0)] a2).bind (fun v3 => if v3 = none then some ((-11 : Int32), σ) else (lpw (LX0_judge_32 v3 σ) ((0 : Int32), (0 : Int32))).bind ((fun e => Sum.elim (fun b9 => some (((1 : Int32) + b9), σ)) (fun b10 => (fX0_length v3 σ).bind (fun v11 => if v11 = (xN σ (0 : Fin 3) 2) then (fX1_all (0 : Fin 3) σ).bind (fun v12 => (fX0_halvesOf v12 σ).bind (fun e13 => if b10 = e13.1 then some ((0 : Int32), e13.2) else some ((100 : Int32), e13.2))) else some ((100 : Int32), σ))) e)))))) = some res := hf
  refine x_start (by decide) (Nat.le_of_ble_eq_true rfl) ?_
  intro p e s m args below meth c S hnm hR hS ls hl
  obtain ⟨hx, hb, hml, hown, hts⟩ := S.1.1
  have hl : lv_has ls 5 [(0, .ref (xo E)), (1, .int x1)] := hl
  have hn : XN 0 0 (xnx σ) (xns σ) (xnx res.2) (xns res.2) σ := ⟨Nat.zero_add _, Nat.zero_add _, (r0_X0_judge (x1 := x1) (σ := σ) hf).le.1, (r0_X0_judge (x1 := x1) (σ := σ) hf).le.2⟩
  refine lv_iload_n hx hb dX0_judge_0 rfl (lv_at hl 1 rfl) ?_
  refine s_call (As := [.int x1]) (rest := []) S.1.1 (met_X0_isSheet rfl) wi_X0_isSheet q1568 ⟨rfl, rfl⟩ ⟨Nat.le_of_ble_eq_true rfl, Nat.le_of_ble_eq_true rfl⟩ rfl hl.1 rfl (Nat.le_of_ble_eq_true rfl) dX0_judge_1 hn.cs ?_
  refine lv_if_ne (tgt := 10) hx hb dX0_judge_4 (by decide) (fun c_4 => ?_) (fun c_4 => ?_)
  · replace hf := o_f hf c_4
    refine lv_aload_n hx hb dX0_judge_10 rfl (lv_at hl 0 rfl) ?_
    refine x_oget (k := 30) (v := .ref (xar E 8)) S hR (lk_X0_75 _ List.mem_cons_self) rfl dX0_judge_11 ?_
    refine lv_iload_n hx hb dX0_judge_14 rfl (lv_at hl 1 rfl) ?_
    refine k_bind hf (fun v1 hv1 hf => ?_)
    refine x_slr S hR hv1 dX0_judge_15 ?_
    refine k_bind hf (fun a2 ha2 hf => ?_)
    rw [rf_some ha2]
    refine k_bind hf (fun v3 hv3 hf => ?_)
    refine x_getN S hR lk_X0_384 (xgR_g hv3) dX0_judge_16 ?_
    refine x_astore_n (r := v3) (lv' := [(2, va_rf v3), (0, .ref (xo E)), (1, .int x1)]) hx hb dX0_judge_19 rfl hl (by decide) rfl (fun ls hl => ?_)
    refine x_aload_n (r := v3) hx hb dX0_judge_20 rfl (lv_at hl 0 rfl) ?_
    refine x_ifnonnull (r := v3) (tgt := 27) hx hb dX0_judge_21 (by decide) (fun c_21 => ?_) (fun c_21 => ?_)
    · replace hf := o_f hf c_21
      refine lv_iconst (v := 0) hx hb dX0_judge_27 (by decide) ?_
      refine lv_istore_n (lv' := [(3, .int (0 : Int32)), (2, va_rf v3), (0, .ref (xo E)), (1, .int x1)]) hx hb dX0_judge_28 rfl hl (by decide) rfl (fun ls hl => ?_)
      refine lv_iconst (v := 0) hx hb dX0_judge_29 (by decide) ?_
      refine lv_istore (lv' := [(4, .int (0 : Int32)), (3, .int (0 : Int32)), (2, va_rf v3), (0, .ref (xo E)), (1, .int x1)]) hx hb dX0_judge_30 hl (by decide) rfl (fun ls hl => ?_)
      refine k_bind hf (fun b8 hb8 hf => ?_)
      refine wLX0_judge_32 S hb8 ?_ ?_ _ _ _ _ _ hR hS hn (lv_sub (l' := [(0, .ref (xo E)), (2, va_rf v3), (3, .int (0 : Int32)), (4, .int (0 : Int32))]) hl [3, 2, 1, 0] rfl)
      · intro b9 eb; subst eb; intro H locs cells slots ls hR hS hn hl
        replace hf := o_l hf
        refine lv_iconst (v := 1) hx hb dX0_judge_51 (by decide) ?_
        refine lv_iload hx hb dX0_judge_52 (lv_at hl 0 rfl) ?_
        refine lv_iadd hx hb dX0_judge_54 ?_
        obtain rfl := Option.some.inj hf
        exact x_iret S hR hS hn rfl dX0_judge_55
      · intro b10 eb; subst eb; intro H locs cells slots ls hR hS hn hl
        replace hf := o_r hf
        refine x_aload_n (r := v3) hx hb dX0_judge_71 rfl (lv_at hl 1 rfl) ?_
        refine k_bind hf (fun v11 hv11 hf => ?_)
        refine x_callS (As := [va_rf v3]) (rest := []) S hR hS hn (met_X0_length hv11) (rl1.rf _) (hn.b (rl0.rf _)) wi_X0_length q1571 ⟨Nat.le_of_ble_eq_true rfl, Nat.le_of_ble_eq_true rfl⟩ rfl hl.1 rfl (Nat.le_of_ble_eq_true rfl) dX0_judge_72 (fun H locs cells slots hR hS hn => ?_)
        refine lv_aload_n hx hb dX0_judge_75 rfl (lv_at hl 0 rfl) ?_
        refine x_oget (k := 0) (v := .ref (xnt E (0 : Fin 3))) S hR (lk_X0_10 _ List.mem_cons_self) rfl dX0_judge_76 ?_
        refine x_ngetN (j := (0 : Fin 3)) (k := 2) (v := .int (xN σ (0 : Fin 3) 2)) S hR (lk_X0_115 _ List.mem_cons_self) rfl dX0_judge_79 ?_
        refine lv_icmp_ne (tgt := 104) hx hb dX0_judge_82 (by decide) (fun c_82 => ?_) (fun c_82 => ?_)
        · replace hf := o_f hf c_82
          refine lv_bipush (v := 100) hx hb dX0_judge_104 (by decide) ?_
          obtain rfl := Option.some.inj hf
          exact x_iret S hR hS hn rfl dX0_judge_106
        · replace hf := o_t hf c_82
          refine lv_iload_n hx hb dX0_judge_85 rfl (lv_at hl 2 rfl) ?_
          refine lv_aload_n hx hb dX0_judge_86 rfl (lv_at hl 0 rfl) ?_
          refine lv_aload_n hx hb dX0_judge_87 rfl (lv_at hl 0 rfl) ?_
          refine x_oget (k := 0) (v := .ref (xnt E (0 : Fin 3))) S hR (lk_X0_10 _ List.mem_cons_self) rfl dX0_judge_88 ?_
          refine k_bind hf (fun v12 hv12 hf => ?_)
          refine x_call (C := RX1) (As := []) (rest := [.ref (xo E), .int b10]) S hR hS hn (met_X1_all hv12) (rl1.rf _) (hn.b (rl0.rf _)) wi_X1_all (xrc S.2 hR (ci := 1) rfl (Or.inr (Or.inl ⟨_, rfl, rfl⟩))) rfl q663 ⟨Nat.le_of_ble_eq_true rfl, Nat.le_of_ble_eq_true rfl⟩ rfl hl.1 rfl (Nat.le_of_ble_eq_true rfl) dX0_judge_91 (fun H locs cells slots hR hS hn => ?_)
          refine k_bind hf (fun e13 he13 hf => ?_)
          refine x_call (C := RX0) (As := [.int v12]) (rest := [.int b10]) S hR hS hn (met_X0_halvesOf he13) (r0_X0_halvesOf he13).le (hn.b (r0_X0_halvesOf he13)) wi_X0_halvesOf (xrc S.2 hR (ci := 0) rfl (Or.inl ⟨rfl, rfl⟩)) rfl q259 ⟨Nat.le_of_ble_eq_true rfl, Nat.le_of_ble_eq_true rfl⟩ rfl hl.1 rfl (Nat.le_of_ble_eq_true rfl) dX0_judge_94 (fun H locs cells slots hR hS hn => ?_)
          refine lv_icmp_ne (tgt := 104) hx hb dX0_judge_97 (by decide) (fun c_97 => ?_) (fun c_97 => ?_)
          · replace hf := o_f hf c_97
            refine lv_bipush (v := 100) hx hb dX0_judge_104 (by decide) ?_
            obtain rfl := Option.some.inj hf
            exact x_iret S hR hS hn rfl dX0_judge_106
          · replace hf := o_t hf c_97
            refine lv_iconst (v := 0) hx hb dX0_judge_100 (by decide) ?_
            refine lv_goto (tgt := 106) hx hb dX0_judge_101 (by decide) ?_
            obtain rfl := Option.some.inj hf
            exact x_iret S hR hS hn rfl dX0_judge_106
    · replace hf := o_t hf c_21
      refine lv_bipush (v := -11) hx hb dX0_judge_24 (by decide) ?_
      obtain rfl := Option.some.inj hf
      exact x_iret S hR hS hn rfl dX0_judge_26
  · replace hf := o_t hf c_4
    refine lv_bipush (v := -2) hx hb dX0_judge_7 (by decide) ?_
    obtain rfl := Option.some.inj hf
    exact x_iret S hR hS hn rfl dX0_judge_9

theorem lk_X24_7 : ∀ q ∈ ([(21, 0)] : List (Nat × Nat)), wLk RX24 7 q.1 q.2 := List.forall_mem_cons.mpr ⟨⟨RX24, TX24, 1, "LinesTouched$Ticket", rfl, by decide, in_X24, q2479, Or.inl rfl⟩, fun _ h => absurd h List.not_mem_nil⟩
theorem pt_X24_7 : ∀ q ∈ ([(21, 0)] : List (Nat × Nat)), wLk RX24 7 q.1 q.2 ∧ wPt q.1 q.2 .int true RX24 := List.forall_mem_cons.mpr ⟨⟨⟨RX24, TX24, 1, "LinesTouched$Ticket", rfl, by decide, in_X24, q2479, Or.inl rfl⟩, ⟨RX24, TX24, 1, tyX24, rfl, by decide, rfl, by decide +kernel, nmX24, tyX24_ok, fun _ => rfl⟩⟩, fun _ h => absurd h List.not_mem_nil⟩
noncomputable def fX24_init (a : Nat) (x1 : Int32) (σ : xS) : Option (xS) :=
  (xp σ [(21, 0)] a (.int x1)).bind (fun σ1 => some σ1)
theorem wi_X24_init : wInfI yX24_init cX24_init 2 1 := ⟨q2476, q167, q2477, rfl, (by decide +kernel), (by decide +kernel), (by decide +kernel)⟩
set_option maxHeartbeats 4000000 in
set_option maxRecDepth 100000 in
theorem r0_X24_init {a : Nat} {x1 : Int32} {σ : xS} {res : xS} (hf : fX24_init a x1 σ = some res) : rl0 σ res := by
  replace hf : ((xp σ [(21, 0)] a (.int x1)).bind (fun σ1 => some σ1)) = some res := hf
  refine k_bind hf (fun σ1 hσ1 hf => ?_)
  refine rl0.tr (r0_p hσ1) ?_
  obtain rfl := Option.some.inj hf
  exact rl0.rf _
set_option maxHeartbeats 4000000 in
set_option maxRecDepth 100000 in
theorem met_X24_init {l : Launch} {E : xG} {a : Nat} {x1 : Int32} {σ : xS} {res : xS} (hf : fX24_init a x1 σ = some res) : xMet l yX24_init cX24_init 2 (Option.none : Option Jvm.ClassFile.FieldType) 1 24 E [.ref a, .int x1] σ none res := by
  replace hf : ((xp σ [(21, 0)] a (.int x1)).bind (fun σ1 => some σ1)) = some res := hf
  refine x_start (by decide) (Nat.le_of_ble_eq_true rfl) ?_
  intro p e s m args below meth c S hnm hR hS ls hl
  obtain ⟨hx, hb, hml, hown, hts⟩ := S.1.1
  have hl : lv_has ls 2 [(0, .ref a), (1, .int x1)] := hl
  have hn : XN 0 0 (xnx σ) (xns σ) (xnx res) (xns res) σ := ⟨Nat.zero_add _, Nat.zero_add _, (r0_X24_init (a := a) (x1 := x1) (σ := σ) hf).le.1, (r0_X24_init (a := a) (x1 := x1) (σ := σ) hf).le.2⟩
  refine lv_aload_n hx hb dX24_init_0 rfl (lv_at hl 0 rfl) ?_
  refine W.objInit hx hb hown (hts _ q2478) (hts _ q175) (hts _ q176) rfl (by rw [hml]; exact hl.1) rfl dX24_init_1 (Nat.le_of_ble_eq_true rfl) (Nat.le_of_ble_eq_true rfl) ?_
  refine lv_aload_n hx hb dX24_init_4 rfl (lv_at hl 0 rfl) ?_
  refine lv_iload_n hx hb dX24_init_5 rfl (lv_at hl 1 rfl) ?_
  refine k_bind hf (fun σ1 hσ1 hf => ?_)
  refine x_putF S hnm hR hS pt_X24_7 rfl rfl hσ1 dX24_init_6 (fun H locs hR hS => ?_)
  replace hn := hn.to (r0_p hσ1)
  obtain rfl := Option.some.inj hf
  exact x_vret S hR hS hn dX24_init_9

theorem lk_X0_79 : ∀ q ∈ ([(0, 31)] : List (Nat × Nat)), wLk RX0 79 q.1 q.2 := List.forall_mem_cons.mpr ⟨⟨RX0, TX0, 32, "LinesTouched", rfl, by decide, in_X0, q409, Or.inl rfl⟩, fun _ h => absurd h List.not_mem_nil⟩
theorem pt_X0_384 : ∀ q ∈ ([(3, 0)] : List (Nat × Nat)), wLkN RX0 384 q.1 q.2 ∧ wPt q.1 q.2 (.object "java/lang/Object") false RX0 := List.forall_mem_cons.mpr ⟨⟨⟨RX3, TX3, 1, "LinesTouched", rfl, by decide, in_X3, q374⟩, ⟨RX3, TX3, 1, tyX3, rfl, by decide, rfl, by decide +kernel, nmX3, tyX3_ok, fun h => absurd h (by decide)⟩⟩, fun _ h => absurd h List.not_mem_nil⟩
noncomputable def JX0_shelf_48 (y1 : Int32) (y2 : Int32) (y3 : Int32) (σ : xS) : Option (Int32 × xS) :=
  (xlr σ 9 y1).bind (fun v1 => if y2 = (0 : Int32) then (xnw σ (.inr (21, [.int 0])) 1).bind (fun n9 => (fX24_init n9.1 y3 n9.2).bind (fun e10 => (v1).bind (fun a11 => (xp e10 [(3, 0)] a11 (.ref n9.1)).bind (fun σ12 => some ((1 : Int32), σ12))))) else if y2 = (1 : Int32) then (xlr σ 8 y3).bind (fun v4 => (v4).bind (fun a5 => (xgR σ [(3, 0)] a5).bind (fun v6 => (v1).bind (fun a7 => (xp σ [(3, 0)] a7 (va_rf v6)).bind (fun σ8 => some ((1 : Int32), σ8)))))) else (v1).bind (fun a2 => (xp σ [(3, 0)] a2 (.null)).bind (fun σ3 => some ((1 : Int32), σ3))))
noncomputable def JX0_shelf_33 (y1 : Int32) (y2 : Int32) (y3 : Int32) (σ : xS) : Option (Int32 × xS) :=
  if y2 = (1 : Int32) then if (fX0_isSheet y3) = (0 : Int32) then some ((-2 : Int32), σ) else JX0_shelf_48 y1 y2 y3 σ else JX0_shelf_48 y1 y2 y3 σ
noncomputable def fX0_shelf (x1 : Int32) (x2 : Int32) (x3 : Int32) (σ : xS) : Option (Int32 × xS) :=
  if (fX0_in x1 (0 : Int32) (3 : Int32)) = (0 : Int32) then some ((-2 : Int32), σ) else if (fX0_in x2 (0 : Int32) (2 : Int32)) = (0 : Int32) then some ((-2 : Int32), σ) else if x2 = (0 : Int32) then (fX1_isPoint (0 : Fin 3) x3 σ).bind (fun v13 => if v13 = (0 : Int32) then some ((-2 : Int32), σ) else JX0_shelf_33 x1 x2 x3 σ) else JX0_shelf_33 x1 x2 x3 σ
theorem wi_X0_shelf : wInfV yX0_shelf cX0_shelf 4 (Option.some Jvm.ClassFile.FieldType.int) 3 := ⟨q2470, q2471, q106, q2472, (by decide +kernel), (by decide +kernel), (by decide +kernel)⟩
set_option maxHeartbeats 4000000 in
set_option maxRecDepth 100000 in
theorem rJX0_shelf_48 {y1 : Int32} {y2 : Int32} {y3 : Int32} {σ : xS} {res : Int32 × xS} (hf : JX0_shelf_48 y1 y2 y3 σ = some res) : rl1 σ res.2 := by
  replace hf : ((xlr σ 9 y1).bind (fun v1 => if y2 = (0 : Int32) then (xnw σ (.inr (21, [.int 0])) 1).bind (fun n9 => (fX24_init n9.1 y3 n9.2).bind (fun e10 => (v1).bind (fun a11 => (xp e10 [(3, 0)] a11 (.ref n9.1)).bind (fun σ12 => some ((1 : Int32), σ12))))) else if y2 = (1 : Int32) then (xlr σ 8 y3).bind (fun v4 => (v4).bind (fun a5 => (xgR σ [(3, 0)] a5).bind (fun v6 => (v1).bind (fun a7 => (xp σ [(3, 0)] a7 (va_rf v6)).bind (fun σ8 => some ((1 : Int32), σ8)))))) else (v1).bind (fun a2 => (xp σ [(3, 0)] a2 (.null)).bind (fun σ3 => some ((1 : Int32), σ3))))) = some res := hf
  refine k_bind hf (fun v1 hv1 hf => ?_)
  by_cases c0 : y2 = (0 : Int32)
  · replace hf := o_t hf c0
    refine k_bind hf (fun n9 hn9 hf => ?_)
    refine rl1.tr (r1_nw hn9) ?_
    refine k_bind hf (fun e10 he10 hf => ?_)
    refine rl0.tr1 (r0_X24_init he10) ?_
    refine k_bind hf (fun a11 ha11 hf => ?_)
    refine k_bind hf (fun σ12 hσ12 hf => ?_)
    refine rl0.tr1 (r0_p hσ12) ?_
    obtain rfl := Option.some.inj hf
    exact rl1.rf _
  · replace hf := o_f hf c0
    by_cases c0 : y2 = (1 : Int32)
    · replace hf := o_t hf c0
      refine k_bind hf (fun v4 hv4 hf => ?_)
      refine k_bind hf (fun a5 ha5 hf => ?_)
      refine k_bind hf (fun v6 hv6 hf => ?_)
      refine k_bind hf (fun a7 ha7 hf => ?_)
      refine k_bind hf (fun σ8 hσ8 hf => ?_)
      refine rl0.tr1 (r0_p hσ8) ?_
      obtain rfl := Option.some.inj hf
      exact rl1.rf _
    · replace hf := o_f hf c0
      refine k_bind hf (fun a2 ha2 hf => ?_)
      refine k_bind hf (fun σ3 hσ3 hf => ?_)
      refine rl0.tr1 (r0_p hσ3) ?_
      obtain rfl := Option.some.inj hf
      exact rl1.rf _
set_option maxHeartbeats 4000000 in
set_option maxRecDepth 100000 in
theorem rJX0_shelf_33 {y1 : Int32} {y2 : Int32} {y3 : Int32} {σ : xS} {res : Int32 × xS} (hf : JX0_shelf_33 y1 y2 y3 σ = some res) : rl1 σ res.2 := by
  replace hf : (if y2 = (1 : Int32) then if (fX0_isSheet y3) = (0 : Int32) then some ((-2 : Int32), σ) else JX0_shelf_48 y1 y2 y3 σ else JX0_shelf_48 y1 y2 y3 σ) = some res := hf
  by_cases c0 : y2 = (1 : Int32)
  · replace hf := o_t hf c0
    by_cases c0 : (fX0_isSheet y3) = (0 : Int32)
    · replace hf := o_t hf c0
      obtain rfl := Option.some.inj hf
      exact rl1.rf _
    · replace hf := o_f hf c0
      exact rJX0_shelf_48 hf
  · replace hf := o_f hf c0
    exact rJX0_shelf_48 hf
set_option maxHeartbeats 4000000 in
set_option maxRecDepth 100000 in
theorem r1_X0_shelf {x1 : Int32} {x2 : Int32} {x3 : Int32} {σ : xS} {res : Int32 × xS} (hf : fX0_shelf x1 x2 x3 σ = some res) : rl1 σ res.2 := by
  replace hf : (if (fX0_in x1 (0 : Int32) (3 : Int32)) = (0 : Int32) then some ((-2 : Int32), σ) else if (fX0_in x2 (0 : Int32) (2 : Int32)) = (0 : Int32) then some ((-2 : Int32), σ) else if x2 = (0 : Int32) then (fX1_isPoint (0 : Fin 3) x3 σ).bind (fun v13 => if v13 = (0 : Int32) then some ((-2 : Int32), σ) else JX0_shelf_33 x1 x2 x3 σ) else JX0_shelf_33 x1 x2 x3 σ) = some res := hf
  by_cases c0 : (fX0_in x1 (0 : Int32) (3 : Int32)) = (0 : Int32)
  · replace hf := o_t hf c0
    obtain rfl := Option.some.inj hf
    exact rl1.rf _
  · replace hf := o_f hf c0
    by_cases c0 : (fX0_in x2 (0 : Int32) (2 : Int32)) = (0 : Int32)
    · replace hf := o_t hf c0
      obtain rfl := Option.some.inj hf
      exact rl1.rf _
    · replace hf := o_f hf c0
      by_cases c0 : x2 = (0 : Int32)
      · replace hf := o_t hf c0
        refine k_bind hf (fun v13 hv13 hf => ?_)
        by_cases c0 : v13 = (0 : Int32)
        · replace hf := o_t hf c0
          obtain rfl := Option.some.inj hf
          exact rl1.rf _
        · replace hf := o_f hf c0
          exact rJX0_shelf_33 hf
      · replace hf := o_f hf c0
        exact rJX0_shelf_33 hf
set_option maxHeartbeats 4000000 in
set_option maxRecDepth 100000 in
theorem wJX0_shelf_48 {l : Launch} {E : xG} {p : Program} {e : Env} {s : State} {m : MethodId} {args : Array Value} {below : List Frame} {meth : Method} {c : Code} {σ0 : xS} {y1 : Int32} {y2 : Int32} {y3 : Int32} {σ : xS} {res : Int32 × xS} (S : xSt E RX0 p m c cX0_shelf 4 s args meth (Option.some Jvm.ClassFile.FieldType.int)) (hf : JX0_shelf_48 y1 y2 y3 σ = some res) : ∀ (H : Heap) (locs : List Loc) (cells slots : Nat) (ls : Array Slot), xR E σ H → va_S (xAA E) s.heap H locs → XN cells slots (xnx σ0) (xns σ0) (xnx res.2) (xns res.2) σ → lv_has ls 4 [(0, .ref (xo E)), (1, .int y1), (2, .int y2), (3, .int y3)] → W p l e (xRm 2 45 ((xnx res.2) - (xnx σ0)) ((xns res.2) - (xns σ0))) s m args below meth c H locs cells slots (MQ below (xQ E (some (.int res.1)) res.2) args s (xnx res.2 - xnx σ0) (xns res.2 - xns σ0) (xAA E)) (F0 m 48 ls []) := by
  replace hf : ((xlr σ 9 y1).bind (fun v1 => if y2 = (0 : Int32) then (xnw σ (.inr (21, [.int 0])) 1).bind (fun n9 => (fX24_init n9.1 y3 n9.2).bind (fun e10 => (v1).bind (fun a11 => (xp e10 [(3, 0)] a11 (.ref n9.1)).bind (fun σ12 => some ((1 : Int32), σ12))))) else if y2 = (1 : Int32) then (xlr σ 8 y3).bind (fun v4 => (v4).bind (fun a5 => (xgR σ [(3, 0)] a5).bind (fun v6 => (v1).bind (fun a7 => (xp σ [(3, 0)] a7 (va_rf v6)).bind (fun σ8 => some ((1 : Int32), σ8)))))) else (v1).bind (fun a2 => (xp σ [(3, 0)] a2 (.null)).bind (fun σ3 => some ((1 : Int32), σ3))))) = some res := hf
  obtain ⟨hx, hb, hml, hown, hts⟩ := S.1.1
  intro H locs cells slots ls hR hS hn hl
  have hb9 : XB (xnx res.2) (xns res.2) res.2 := ⟨Nat.le_refl _, Nat.le_refl _⟩
  refine lv_aload_n hx hb dX0_shelf_48 rfl (lv_at hl 0 rfl) ?_
  refine x_oget (k := 31) (v := .ref (xar E 9)) S hR (lk_X0_79 _ List.mem_cons_self) rfl dX0_shelf_49 ?_
  refine lv_iload_n hx hb dX0_shelf_52 rfl (lv_at hl 1 rfl) ?_
  refine k_bind hf (fun v1 hv1 hf => ?_)
  refine x_slr S hR hv1 dX0_shelf_53 ?_
  refine lv_iload_n hx hb dX0_shelf_54 rfl (lv_at hl 2 rfl) ?_
  refine lv_if_ne (tgt := 69) hx hb dX0_shelf_55 (by decide) (fun c_55 => ?_) (fun c_55 => ?_)
  · replace hf := o_f hf c_55
    refine lv_iload_n hx hb dX0_shelf_69 rfl (lv_at hl 2 rfl) ?_
    refine lv_iconst (v := 1) hx hb dX0_shelf_70 (by decide) ?_
    refine lv_icmp_ne (tgt := 86) hx hb dX0_shelf_71 (by decide) (fun c_71 => ?_) (fun c_71 => ?_)
    · replace hf := o_f hf c_71
      refine lv_null hx hb dX0_shelf_86 ?_
      refine k_bind hf (fun a2 ha2 hf => ?_)
      rw [rf_some ha2]
      refine k_bind hf (fun σ3 hσ3 hf => ?_)
      refine x_putN S hR hS pt_X0_384 rfl rfl hσ3 dX0_shelf_87 (fun H locs hR hS => ?_)
      replace hn := hn.to (r0_p hσ3)
      refine lv_iconst (v := 1) hx hb dX0_shelf_90 (by decide) ?_
      obtain rfl := Option.some.inj hf
      exact x_iret S hR hS hn rfl dX0_shelf_91
    · replace hf := o_t hf c_71
      refine lv_aload_n hx hb dX0_shelf_74 rfl (lv_at hl 0 rfl) ?_
      refine x_oget (k := 30) (v := .ref (xar E 8)) S hR (lk_X0_75 _ List.mem_cons_self) rfl dX0_shelf_75 ?_
      refine lv_iload_n hx hb dX0_shelf_78 rfl (lv_at hl 3 rfl) ?_
      refine k_bind hf (fun v4 hv4 hf => ?_)
      refine x_slr S hR hv4 dX0_shelf_79 ?_
      refine k_bind hf (fun a5 ha5 hf => ?_)
      rw [rf_some ha5]
      refine k_bind hf (fun v6 hv6 hf => ?_)
      refine x_getN S hR lk_X0_384 (xgR_g hv6) dX0_shelf_80 ?_
      refine lv_goto (tgt := 87) hx hb dX0_shelf_83 (by decide) ?_
      refine k_bind hf (fun a7 ha7 hf => ?_)
      rw [rf_some ha7]
      refine k_bind hf (fun σ8 hσ8 hf => ?_)
      refine x_putN S hR hS pt_X0_384 (rf_nar _ _ (by decide)) (rf_fit _ _ (by decide)) hσ8 dX0_shelf_87 (fun H locs hR hS => ?_)
      replace hn := hn.to (r0_p hσ8)
      refine lv_iconst (v := 1) hx hb dX0_shelf_90 (by decide) ?_
      obtain rfl := Option.some.inj hf
      exact x_iret S hR hS hn rfl dX0_shelf_91
  · replace hf := o_t hf c_55
    refine k_bind hf (fun n9 hn9 hf => ?_)
    have hbn9 : XB (xnx res.2) (xns res.2) n9.2 := hb9.back (by
      refine k_bind hf (fun e10 he10 hf => ?_)
      refine rl0.tr1 (r0_X24_init he10) ?_
      refine k_bind hf (fun a11 ha11 hf => ?_)
      refine k_bind hf (fun σ12 hσ12 hf => ?_)
      refine rl0.tr1 (r0_p hσ12) ?_
      obtain rfl := Option.some.inj hf
      exact rl1.rf _)
    refine x_newQ (T := TX24) (ty := tyX24) S hR hS hn hn9 hbn9 rfl in_X24 tyX24_ok (by decide +kernel) q2473 q2474 q167 dX0_shelf_58 (fun H cells slots hR hS hn => ?_)
    refine lv_dup hx hb dX0_shelf_61 rfl ?_
    refine lv_iload_n hx hb dX0_shelf_62 rfl (lv_at hl 3 rfl) ?_
    refine k_bind hf (fun e10 he10 hf => ?_)
    refine x_callI (As := [.int y3]) (rest := [.ref n9.1, va_rf v1]) S hR hS hn (met_X24_init he10) (r0_X24_init he10).le (hn.b (r0_X24_init he10)) wi_X24_init q2475 ⟨Nat.le_of_ble_eq_true rfl, Nat.le_of_ble_eq_true rfl⟩ rfl hl.1 rfl (by simp only [List.map_cons, List.map_nil, rf_cat]; exact Nat.le_of_ble_eq_true rfl) dX0_shelf_63 (fun H locs cells slots hR hS hn => ?_)
    refine lv_goto (tgt := 87) hx hb dX0_shelf_66 (by decide) ?_
    refine k_bind hf (fun a11 ha11 hf => ?_)
    rw [rf_some ha11]
    refine k_bind hf (fun σ12 hσ12 hf => ?_)
    refine x_putN S hR hS pt_X0_384 rfl rfl hσ12 dX0_shelf_87 (fun H locs hR hS => ?_)
    replace hn := hn.to (r0_p hσ12)
    refine lv_iconst (v := 1) hx hb dX0_shelf_90 (by decide) ?_
    obtain rfl := Option.some.inj hf
    exact x_iret S hR hS hn rfl dX0_shelf_91
set_option maxHeartbeats 4000000 in
set_option maxRecDepth 100000 in
theorem wJX0_shelf_33 {l : Launch} {E : xG} {p : Program} {e : Env} {s : State} {m : MethodId} {args : Array Value} {below : List Frame} {meth : Method} {c : Code} {σ0 : xS} {y1 : Int32} {y2 : Int32} {y3 : Int32} {σ : xS} {res : Int32 × xS} (S : xSt E RX0 p m c cX0_shelf 4 s args meth (Option.some Jvm.ClassFile.FieldType.int)) (hf : JX0_shelf_33 y1 y2 y3 σ = some res) : ∀ (H : Heap) (locs : List Loc) (cells slots : Nat) (ls : Array Slot), xR E σ H → va_S (xAA E) s.heap H locs → XN cells slots (xnx σ0) (xns σ0) (xnx res.2) (xns res.2) σ → lv_has ls 4 [(0, .ref (xo E)), (1, .int y1), (2, .int y2), (3, .int y3)] → W p l e (xRm 2 45 ((xnx res.2) - (xnx σ0)) ((xns res.2) - (xns σ0))) s m args below meth c H locs cells slots (MQ below (xQ E (some (.int res.1)) res.2) args s (xnx res.2 - xnx σ0) (xns res.2 - xns σ0) (xAA E)) (F0 m 33 ls []) := by
  replace hf : (if y2 = (1 : Int32) then if (fX0_isSheet y3) = (0 : Int32) then some ((-2 : Int32), σ) else JX0_shelf_48 y1 y2 y3 σ else JX0_shelf_48 y1 y2 y3 σ) = some res := hf
  obtain ⟨hx, hb, hml, hown, hts⟩ := S.1.1
  intro H locs cells slots ls hR hS hn hl
  have hb9 : XB (xnx res.2) (xns res.2) res.2 := ⟨Nat.le_refl _, Nat.le_refl _⟩
  refine lv_iload_n hx hb dX0_shelf_33 rfl (lv_at hl 2 rfl) ?_
  refine lv_iconst (v := 1) hx hb dX0_shelf_34 (by decide) ?_
  refine lv_icmp_ne (tgt := 48) hx hb dX0_shelf_35 (by decide) (fun c_35 => ?_) (fun c_35 => ?_)
  · replace hf := o_f hf c_35
    exact wJX0_shelf_48 S hf _ _ _ _ _ hR hS hn hl
  · replace hf := o_t hf c_35
    refine lv_iload_n hx hb dX0_shelf_38 rfl (lv_at hl 3 rfl) ?_
    refine s_call (As := [.int y3]) (rest := []) S.1.1 (met_X0_isSheet rfl) wi_X0_isSheet q1568 ⟨rfl, rfl⟩ ⟨Nat.le_of_ble_eq_true rfl, Nat.le_of_ble_eq_true rfl⟩ rfl hl.1 rfl (Nat.le_of_ble_eq_true rfl) dX0_shelf_39 hn.cs ?_
    refine lv_if_ne (tgt := 48) hx hb dX0_shelf_42 (by decide) (fun c_42 => ?_) (fun c_42 => ?_)
    · replace hf := o_f hf c_42
      exact wJX0_shelf_48 S hf _ _ _ _ _ hR hS hn hl
    · replace hf := o_t hf c_42
      refine lv_bipush (v := -2) hx hb dX0_shelf_45 (by decide) ?_
      obtain rfl := Option.some.inj hf
      exact x_iret S hR hS hn rfl dX0_shelf_47
set_option maxHeartbeats 4000000 in
set_option maxRecDepth 100000 in
theorem met_X0_shelf {l : Launch} {E : xG} {x1 : Int32} {x2 : Int32} {x3 : Int32} {σ : xS} {res : Int32 × xS} (hf : fX0_shelf x1 x2 x3 σ = some res) : xMet l yX0_shelf cX0_shelf 4 (Option.some Jvm.ClassFile.FieldType.int) 2 45 E [.ref (xo E), .int x1, .int x2, .int x3] σ (some (.int res.1)) res.2 := by
  replace hf : (if (fX0_in x1 (0 : Int32) (3 : Int32)) = (0 : Int32) then some ((-2 : Int32), σ) else if (fX0_in x2 (0 : Int32) (2 : Int32)) = (0 : Int32) then some ((-2 : Int32), σ) else if x2 = (0 : Int32) then (fX1_isPoint (0 : Fin 3) x3 σ).bind (fun v13 => if v13 = (0 : Int32) then some ((-2 : Int32), σ) else JX0_shelf_33 x1 x2 x3 σ) else JX0_shelf_33 x1 x2 x3 σ) = some res := hf
  refine x_start (by decide) (Nat.le_of_ble_eq_true rfl) ?_
  intro p e s m args below meth c S hnm hR hS ls hl
  obtain ⟨hx, hb, hml, hown, hts⟩ := S.1.1
  have hl : lv_has ls 4 [(0, .ref (xo E)), (1, .int x1), (2, .int x2), (3, .int x3)] := hl
  have hn : XN 0 0 (xnx σ) (xns σ) (xnx res.2) (xns res.2) σ := ⟨Nat.zero_add _, Nat.zero_add _, (r1_X0_shelf (x1 := x1) (x2 := x2) (x3 := x3) (σ := σ) hf).1, (r1_X0_shelf (x1 := x1) (x2 := x2) (x3 := x3) (σ := σ) hf).2⟩
  have hb9 : XB (xnx res.2) (xns res.2) res.2 := ⟨Nat.le_refl _, Nat.le_refl _⟩
  refine lv_iload_n hx hb dX0_shelf_0 rfl (lv_at hl 1 rfl) ?_
  refine lv_iconst (v := 0) hx hb dX0_shelf_1 (by decide) ?_
  refine lv_iconst (v := 3) hx hb dX0_shelf_2 (by decide) ?_
  refine s_call (As := [.int x1, .int (0 : Int32), .int (3 : Int32)]) (rest := []) S.1.1 (met_X0_in rfl) wi_X0_in q479 ⟨rfl, rfl⟩ ⟨Nat.le_of_ble_eq_true rfl, Nat.le_of_ble_eq_true rfl⟩ rfl hl.1 rfl (Nat.le_of_ble_eq_true rfl) dX0_shelf_3 hn.cs ?_
  refine lv_if_eq (tgt := 45) hx hb dX0_shelf_6 (by decide) (fun c_6 => ?_) (fun c_6 => ?_)
  · replace hf := o_t hf c_6
    refine lv_bipush (v := -2) hx hb dX0_shelf_45 (by decide) ?_
    obtain rfl := Option.some.inj hf
    exact x_iret S hR hS hn rfl dX0_shelf_47
  · replace hf := o_f hf c_6
    refine lv_iload_n hx hb dX0_shelf_9 rfl (lv_at hl 2 rfl) ?_
    refine lv_iconst (v := 0) hx hb dX0_shelf_10 (by decide) ?_
    refine lv_iconst (v := 2) hx hb dX0_shelf_11 (by decide) ?_
    refine s_call (As := [.int x2, .int (0 : Int32), .int (2 : Int32)]) (rest := []) S.1.1 (met_X0_in rfl) wi_X0_in q479 ⟨rfl, rfl⟩ ⟨Nat.le_of_ble_eq_true rfl, Nat.le_of_ble_eq_true rfl⟩ rfl hl.1 rfl (Nat.le_of_ble_eq_true rfl) dX0_shelf_12 hn.cs ?_
    refine lv_if_eq (tgt := 45) hx hb dX0_shelf_15 (by decide) (fun c_15 => ?_) (fun c_15 => ?_)
    · replace hf := o_t hf c_15
      refine lv_bipush (v := -2) hx hb dX0_shelf_45 (by decide) ?_
      obtain rfl := Option.some.inj hf
      exact x_iret S hR hS hn rfl dX0_shelf_47
    · replace hf := o_f hf c_15
      refine lv_iload_n hx hb dX0_shelf_18 rfl (lv_at hl 2 rfl) ?_
      refine lv_if_ne (tgt := 33) hx hb dX0_shelf_19 (by decide) (fun c_19 => ?_) (fun c_19 => ?_)
      · replace hf := o_f hf c_19
        exact wJX0_shelf_33 S hf _ _ _ _ _ hR hS hn hl
      · replace hf := o_t hf c_19
        refine lv_aload_n hx hb dX0_shelf_22 rfl (lv_at hl 0 rfl) ?_
        refine x_oget (k := 0) (v := .ref (xnt E (0 : Fin 3))) S hR (lk_X0_10 _ List.mem_cons_self) rfl dX0_shelf_23 ?_
        refine lv_iload_n hx hb dX0_shelf_26 rfl (lv_at hl 3 rfl) ?_
        refine k_bind hf (fun v13 hv13 hf => ?_)
        refine x_call (C := RX1) (As := [.int x3]) (rest := []) S hR hS hn (met_X1_isPoint hv13) (rl1.rf _) (hn.b (rl0.rf _)) wi_X1_isPoint (xrc S.2 hR (ci := 1) rfl (Or.inr (Or.inl ⟨_, rfl, rfl⟩))) rfl q559 ⟨Nat.le_of_ble_eq_true rfl, Nat.le_of_ble_eq_true rfl⟩ rfl hl.1 rfl (Nat.le_of_ble_eq_true rfl) dX0_shelf_27 (fun H locs cells slots hR hS hn => ?_)
        refine lv_if_eq (tgt := 45) hx hb dX0_shelf_30 (by decide) (fun c_30 => ?_) (fun c_30 => ?_)
        · replace hf := o_t hf c_30
          refine lv_bipush (v := -2) hx hb dX0_shelf_45 (by decide) ?_
          obtain rfl := Option.some.inj hf
          exact x_iret S hR hS hn rfl dX0_shelf_47
        · replace hf := o_f hf c_30
          exact wJX0_shelf_33 S hf _ _ _ _ _ hR hS hn hl


noncomputable def fX0_heldOn (x1 : Int32) (σ : xS) : Option (Option Nat) :=
  (xlr σ 9 x1).bind (fun v1 => (v1).bind (fun a2 => (xgR σ [(3, 0)] a2).bind (fun v3 => none)))
theorem wi_X0_heldOn : wInfV yX0_heldOn cX0_heldOn 4 (Option.some (Jvm.ClassFile.FieldType.object "java/lang/Object")) 1 := ⟨q2504, qs56, q106, q2505, (by decide +kernel), (by decide +kernel), (by decide +kernel)⟩
set_option maxHeartbeats 4000000 in
set_option maxRecDepth 100000 in
theorem met_X0_heldOn {l : Launch} {E : xG} {x1 : Int32} {σ : xS} {res : Option Nat} (hf : fX0_heldOn x1 σ = some res) : xMet l yX0_heldOn cX0_heldOn 4 (Option.some (Jvm.ClassFile.FieldType.object "java/lang/Object")) 0 0 E [.ref (xo E), .int x1] σ (some (va_rf res)) σ := by
  replace hf : ((xlr σ 9 x1).bind (fun v1 => (v1).bind (fun a2 => (xgR σ [(3, 0)] a2).bind (fun v3 => none)))) = some res := hf
  refine x_start (by decide) (Nat.le_of_ble_eq_true rfl) ?_
  intro p e s m args below meth c S hnm hR hS ls hl
  obtain ⟨hx, hb, hml, hown, hts⟩ := S.1.1
  have hl : lv_has ls 4 [(0, .ref (xo E)), (1, .int x1)] := hl
  have hn : XN 0 0 (xnx σ) (xns σ) (xnx σ) (xns σ) σ := ⟨Nat.zero_add _, Nat.zero_add _, (rl1.rf σ).1, (rl1.rf σ).2⟩
  refine lv_aload_n hx hb dX0_heldOn_0 rfl (lv_at hl 0 rfl) ?_
  refine x_oget (k := 31) (v := .ref (xar E 9)) S hR (lk_X0_79 _ List.mem_cons_self) rfl dX0_heldOn_1 ?_
  refine lv_iload_n hx hb dX0_heldOn_4 rfl (lv_at hl 1 rfl) ?_
  refine k_bind hf (fun v1 hv1 hf => ?_)
  refine x_slr S hR hv1 dX0_heldOn_5 ?_
  refine k_bind hf (fun a2 ha2 hf => ?_)
  rw [rf_some ha2]
  refine k_bind hf (fun v3 hv3 hf => ?_)
  refine x_getN S hR lk_X0_384 (xgR_g hv3) dX0_heldOn_6 ?_
  refine x_astore_n (r := v3) (lv' := [(2, va_rf v3), (0, .ref (xo E)), (1, .int x1)]) hx hb dX0_heldOn_9 rfl hl (by decide) rfl (fun ls hl => ?_)
  refine x_aload_n (r := v3) hx hb dX0_heldOn_10 rfl (lv_at hl 0 rfl) ?_
  cases hf


noncomputable def fX0_taken_2 (x0 : Option Nat) (x1 : Int32) (σ : xS) : Option (Option Nat) :=
  if x1 = (0 : Int32) then none else if x1 = (1 : Int32) then none else if x1 = (2 : Int32) then none else if x1 = (3 : Int32) then none else if x1 = (4 : Int32) then none else none
theorem wi_X0_taken_2 : wInfS yX0_taken_2 cX0_taken_2 2 (Option.some (Jvm.ClassFile.FieldType.object "LinesTouched$Point")) 2 := ⟨q2507, q106, q2508, (by decide +kernel), (by decide +kernel), (by decide +kernel)⟩
set_option maxHeartbeats 4000000 in
set_option maxRecDepth 100000 in
theorem met_X0_taken_2 {l : Launch} {E : xG} {x0 : Option Nat} {x1 : Int32} {σ : xS} {res : Option Nat} (hf : fX0_taken_2 x0 x1 σ = some res) : xMet l yX0_taken_2 cX0_taken_2 2 (Option.some (Jvm.ClassFile.FieldType.object "LinesTouched$Point")) 0 0 E [va_rf x0, .int x1] σ (some (va_rf res)) σ := by
  replace hf : (if x1 = (0 : Int32) then none else if x1 = (1 : Int32) then none else if x1 = (2 : Int32) then none else if x1 = (3 : Int32) then none else if x1 = (4 : Int32) then none else none) = some res := hf
  refine x_start (by decide) (Nat.le_of_ble_eq_true rfl) ?_
  intro p e s m args below meth c S hnm hR hS ls hl
  obtain ⟨hx, hb, hml, hown, hts⟩ := S.1.1
  have hl : lv_has ls 2 [(0, va_rf x0), (1, .int x1)] := hl
  have hn : XN 0 0 (xnx σ) (xns σ) (xnx σ) (xns σ) σ := ⟨Nat.zero_add _, Nat.zero_add _, (rl1.rf σ).1, (rl1.rf σ).2⟩
  refine lv_iload_n hx hb dX0_taken_2_0 rfl (lv_at hl 1 rfl) ?_
  by_cases c_1_0 : x1 = (0 : Int32)
  · replace hf := o_t hf c_1_0
    refine lv_tableIn (tgt := 36) hx hb dX0_taken_2_1 (by rw [c_1_0]; decide) (by rw [c_1_0]; decide) (by rw [c_1_0]; rfl) (by decide) ?_
    refine x_aload_n (r := x0) hx hb dX0_taken_2_36 rfl (lv_at hl 0 rfl) ?_
    cases hf
  replace hf := o_f hf c_1_0
  by_cases c_1_1 : x1 = (1 : Int32)
  · replace hf := o_t hf c_1_1
    refine lv_tableIn (tgt := 41) hx hb dX0_taken_2_1 (by rw [c_1_1]; decide) (by rw [c_1_1]; decide) (by rw [c_1_1]; rfl) (by decide) ?_
    refine x_aload_n (r := x0) hx hb dX0_taken_2_41 rfl (lv_at hl 0 rfl) ?_
    cases hf
  replace hf := o_f hf c_1_1
  by_cases c_1_2 : x1 = (2 : Int32)
  · replace hf := o_t hf c_1_2
    refine lv_tableIn (tgt := 46) hx hb dX0_taken_2_1 (by rw [c_1_2]; decide) (by rw [c_1_2]; decide) (by rw [c_1_2]; rfl) (by decide) ?_
    refine x_aload_n (r := x0) hx hb dX0_taken_2_46 rfl (lv_at hl 0 rfl) ?_
    cases hf
  replace hf := o_f hf c_1_2
  by_cases c_1_3 : x1 = (3 : Int32)
  · replace hf := o_t hf c_1_3
    refine lv_tableIn (tgt := 51) hx hb dX0_taken_2_1 (by rw [c_1_3]; decide) (by rw [c_1_3]; decide) (by rw [c_1_3]; rfl) (by decide) ?_
    refine x_aload_n (r := x0) hx hb dX0_taken_2_51 rfl (lv_at hl 0 rfl) ?_
    cases hf
  replace hf := o_f hf c_1_3
  by_cases c_1_4 : x1 = (4 : Int32)
  · replace hf := o_t hf c_1_4
    refine lv_tableIn (tgt := 56) hx hb dX0_taken_2_1 (by rw [c_1_4]; decide) (by rw [c_1_4]; decide) (by rw [c_1_4]; rfl) (by decide) ?_
    refine x_aload_n (r := x0) hx hb dX0_taken_2_56 rfl (lv_at hl 0 rfl) ?_
    cases hf
  replace hf := o_f hf c_1_4
  refine lv_tableOut (tgt := 61) hx hb dX0_taken_2_1 (by have t0 := lv_neT c_1_0 (a := 0) rfl; have t1 := lv_neT c_1_1 (a := 1) rfl; have t2 := lv_neT c_1_2 (a := 2) rfl; have t3 := lv_neT c_1_3 (a := 3) rfl; have t4 := lv_neT c_1_4 (a := 4) rfl; omega) (by decide) ?_
  refine x_aload_n (r := x0) hx hb dX0_taken_2_61 rfl (lv_at hl 0 rfl) ?_
  cases hf


noncomputable def fX0_lengthAs (x0 : Option Nat) (x1 : Int32) (σ : xS) : Option (Int32) :=
  if x1 = (0 : Int32) then none else if x1 = (1 : Int32) then none else none
theorem wi_X0_lengthAs : wInfS yX0_lengthAs cX0_lengthAs 2 (Option.some Jvm.ClassFile.FieldType.int) 2 := ⟨q2510, q106, q2511, (by decide +kernel), (by decide +kernel), (by decide +kernel)⟩
set_option maxHeartbeats 4000000 in
set_option maxRecDepth 100000 in
theorem met_X0_lengthAs {l : Launch} {E : xG} {x0 : Option Nat} {x1 : Int32} {σ : xS} {res : Int32} (hf : fX0_lengthAs x0 x1 σ = some res) : xMet l yX0_lengthAs cX0_lengthAs 2 (Option.some Jvm.ClassFile.FieldType.int) 0 0 E [va_rf x0, .int x1] σ (some (.int res)) σ := by
  replace hf : (if x1 = (0 : Int32) then none else if x1 = (1 : Int32) then none else none) = some res := hf
  refine x_start (by decide) (Nat.le_of_ble_eq_true rfl) ?_
  intro p e s m args below meth c S hnm hR hS ls hl
  obtain ⟨hx, hb, hml, hown, hts⟩ := S.1.1
  have hl : lv_has ls 2 [(0, va_rf x0), (1, .int x1)] := hl
  have hn : XN 0 0 (xnx σ) (xns σ) (xnx σ) (xns σ) σ := ⟨Nat.zero_add _, Nat.zero_add _, (rl1.rf σ).1, (rl1.rf σ).2⟩
  refine lv_iload_n hx hb dX0_lengthAs_0 rfl (lv_at hl 1 rfl) ?_
  refine lv_if_ne (tgt := 12) hx hb dX0_lengthAs_1 (by decide) (fun c_1 => ?_) (fun c_1 => ?_)
  · replace hf := o_f hf c_1
    refine lv_iload_n hx hb dX0_lengthAs_12 rfl (lv_at hl 1 rfl) ?_
    refine lv_iconst (v := 1) hx hb dX0_lengthAs_13 (by decide) ?_
    refine lv_icmp_ne (tgt := 25) hx hb dX0_lengthAs_14 (by decide) (fun c_14 => ?_) (fun c_14 => ?_)
    · replace hf := o_f hf c_14
      refine x_aload_n (r := x0) hx hb dX0_lengthAs_25 rfl (lv_at hl 0 rfl) ?_
      cases hf
    · replace hf := o_t hf c_14
      refine x_aload_n (r := x0) hx hb dX0_lengthAs_17 rfl (lv_at hl 0 rfl) ?_
      cases hf
  · replace hf := o_t hf c_1
    refine x_aload_n (r := x0) hx hb dX0_lengthAs_4 rfl (lv_at hl 0 rfl) ?_
    cases hf


noncomputable def fX1_become (j : Fin 3) (x1 : Fin 3) (σ : xS) : Option (Unit) :=
  none
theorem wi_X1_become : wInfV yX1_become cX1_become 2 (Option.none : Option Jvm.ClassFile.FieldType) 1 := ⟨q2389, q2390, q107, q2391, (by decide +kernel), (by decide +kernel), (by decide +kernel)⟩
set_option maxHeartbeats 4000000 in
set_option maxRecDepth 100000 in
theorem met_X1_become {l : Launch} {E : xG} {j : Fin 3} {x1 : Fin 3} {σ : xS} {res : Unit} (hf : fX1_become j x1 σ = some res) : xMet l yX1_become cX1_become 2 (Option.none : Option Jvm.ClassFile.FieldType) 0 0 E [.ref (xnt E j), .ref (xnt E x1)] σ none σ := by
  replace hf : none = some res := hf
  refine x_start (by decide) (Nat.le_of_ble_eq_true rfl) ?_
  intro p e s m args below meth c S hnm hR hS ls hl
  obtain ⟨hx, hb, hml, hown, hts⟩ := S.1.1
  have hl : lv_has ls 2 [(0, .ref (xnt E j)), (1, .ref (xnt E x1))] := hl
  have hn : XN 0 0 (xnx σ) (xns σ) (xnx σ) (xns σ) σ := ⟨Nat.zero_add _, Nat.zero_add _, (rl1.rf σ).1, (rl1.rf σ).2⟩
  refine lv_aload_n hx hb dX1_become_0 rfl (lv_at hl 1 rfl) ?_
  refine x_nget (j := x1) (k := 0) (v := .ref (xar E (10 + 2 * x1.val))) S hR (lk_X1_11 _ List.mem_cons_self) rfl dX1_become_1 ?_
  refine lv_iconst (v := 0) hx hb dX1_become_4 (by decide) ?_
  refine lv_aload_n hx hb dX1_become_5 rfl (lv_at hl 0 rfl) ?_
  refine x_nget (j := j) (k := 0) (v := .ref (xar E (10 + 2 * j.val))) S hR (lk_X1_11 _ List.mem_cons_self) rfl dX1_become_6 ?_
  refine lv_iconst (v := 0) hx hb dX1_become_9 (by decide) ?_
  refine lv_bipush (v := 12) hx hb dX1_become_10 (by decide) ?_
  cases hf

theorem lk_X0_668 : ∀ q ∈ ([(0, 3)] : List (Nat × Nat)), wLk RX0 668 q.1 q.2 := List.forall_mem_cons.mpr ⟨⟨RX0, TX0, 32, "LinesTouched", rfl, by decide, in_X0, q381, Or.inl rfl⟩, fun _ h => absurd h List.not_mem_nil⟩
theorem pt_X0_668 : ∀ q ∈ ([(0, 3)] : List (Nat × Nat)), wLk RX0 668 q.1 q.2 ∧ wPt q.1 q.2 .boolean false RX0 := List.forall_mem_cons.mpr ⟨⟨⟨RX0, TX0, 32, "LinesTouched", rfl, by decide, in_X0, q381, Or.inl rfl⟩, ⟨RX0, TX0, 32, tyX0, rfl, by decide, rfl, by decide +kernel, nmX0, tyX0_ok, fun h => absurd h (by decide)⟩⟩, fun _ h => absurd h List.not_mem_nil⟩
noncomputable def fX0_image (σ : xS) : Option (Int32 × xS) :=
  (fX1_become (1 : Fin 3) (0 : Fin 3) σ).bind (fun v1 => (xpI σ 3 (1 : Int32)).bind (fun σ2 => some ((xN σ2 (0 : Fin 3) 2), σ2)))
theorem wi_X0_image : wInfV yX0_image cX0_image 1 (Option.some Jvm.ClassFile.FieldType.int) 0 := ⟨q2513, q2514, q106, q2515, (by decide +kernel), (by decide +kernel), (by decide +kernel)⟩
set_option maxHeartbeats 4000000 in
set_option maxRecDepth 100000 in
theorem r0_X0_image {σ : xS} {res : Int32 × xS} (hf : fX0_image σ = some res) : rl0 σ res.2 := by
  replace hf : ((fX1_become (1 : Fin 3) (0 : Fin 3) σ).bind (fun v1 => (xpI σ 3 (1 : Int32)).bind (fun σ2 => some ((xN σ2 (0 : Fin 3) 2), σ2)))) = some res := hf
  refine k_bind hf (fun v1 hv1 hf => ?_)
  refine k_bind hf (fun σ2 hσ2 hf => ?_)
  refine rl0.tr (r0_pI hσ2) ?_
  obtain rfl := Option.some.inj hf
  exact rl0.rf _
set_option maxHeartbeats 4000000 in
set_option maxRecDepth 100000 in
theorem met_X0_image {l : Launch} {E : xG} {σ : xS} {res : Int32 × xS} (hf : fX0_image σ = some res) : xMet l yX0_image cX0_image 1 (Option.some Jvm.ClassFile.FieldType.int) 1 21 E [.ref (xo E)] σ (some (.int res.1)) res.2 := by
  replace hf : ((fX1_become (1 : Fin 3) (0 : Fin 3) σ).bind (fun v1 => (xpI σ 3 (1 : Int32)).bind (fun σ2 => some ((xN σ2 (0 : Fin 3) 2), σ2)))) = some res := hf
  refine x_start (by decide) (Nat.le_of_ble_eq_true rfl) ?_
  intro p e s m args below meth c S hnm hR hS ls hl
  obtain ⟨hx, hb, hml, hown, hts⟩ := S.1.1
  have hl : lv_has ls 1 [(0, .ref (xo E))] := hl
  have hn : XN 0 0 (xnx σ) (xns σ) (xnx res.2) (xns res.2) σ := ⟨Nat.zero_add _, Nat.zero_add _, (r0_X0_image (σ := σ) hf).le.1, (r0_X0_image (σ := σ) hf).le.2⟩
  refine lv_aload_n hx hb dX0_image_0 rfl (lv_at hl 0 rfl) ?_
  refine x_oget (k := 1) (v := .ref (xnt E (1 : Fin 3))) S hR (lk_X0_16 _ List.mem_cons_self) rfl dX0_image_1 ?_
  refine lv_aload_n hx hb dX0_image_4 rfl (lv_at hl 0 rfl) ?_
  refine x_oget (k := 0) (v := .ref (xnt E (0 : Fin 3))) S hR (lk_X0_10 _ List.mem_cons_self) rfl dX0_image_5 ?_
  refine k_bind hf (fun v1 hv1 hf => ?_)
  refine x_call (C := RX1) (As := [.ref (xnt E (0 : Fin 3))]) (rest := []) S hR hS hn (met_X1_become hv1) (rl1.rf _) (hn.b (rl0.rf _)) wi_X1_become (xrc S.2 hR (ci := 1) rfl (Or.inr (Or.inl ⟨_, rfl, rfl⟩))) rfl q2388 ⟨Nat.le_of_ble_eq_true rfl, Nat.le_of_ble_eq_true rfl⟩ rfl hl.1 rfl (Nat.le_of_ble_eq_true rfl) dX0_image_8 (fun H locs cells slots hR hS hn => ?_)
  refine lv_aload_n hx hb dX0_image_11 rfl (lv_at hl 0 rfl) ?_
  refine lv_iconst (v := 1) hx hb dX0_image_12 (by decide) ?_
  refine k_bind hf (fun σ2 hσ2 hf => ?_)
  refine x_oput (k := 3) S hR hS hσ2 rfl (pt_X0_668 _ List.mem_cons_self).1 (pt_X0_668 _ List.mem_cons_self).2 rfl rfl (by decide) dX0_image_13 (fun H locs hR hS => ?_)
  replace hn := hn.to (r0_pI hσ2)
  refine lv_aload_n hx hb dX0_image_16 rfl (lv_at hl 0 rfl) ?_
  refine x_oget (k := 0) (v := .ref (xnt E (0 : Fin 3))) S hR (lk_X0_10 _ List.mem_cons_self) rfl dX0_image_17 ?_
  refine x_ngetN (j := (0 : Fin 3)) (k := 2) (v := .int (xN σ2 (0 : Fin 3) 2)) S hR (lk_X0_115 _ List.mem_cons_self) rfl dX0_image_20 ?_
  obtain rfl := Option.some.inj hf
  exact x_iret S hR hS hn rfl dX0_image_23


noncomputable def fX0_back (σ : xS) : Option (Int32) :=
  if (xI σ 3) = (0 : Int32) then some (-3 : Int32) else (fX1_become (0 : Fin 3) (1 : Fin 3) σ).bind (fun v1 => some (xN σ (0 : Fin 3) 2))
theorem wi_X0_back : wInfV yX0_back cX0_back 1 (Option.some Jvm.ClassFile.FieldType.int) 0 := ⟨q2517, q2518, q106, q2519, (by decide +kernel), (by decide +kernel), (by decide +kernel)⟩
set_option maxHeartbeats 4000000 in
set_option maxRecDepth 100000 in
theorem met_X0_back {l : Launch} {E : xG} {σ : xS} {res : Int32} (hf : fX0_back σ = some res) : xMet l yX0_back cX0_back 1 (Option.some Jvm.ClassFile.FieldType.int) 1 21 E [.ref (xo E)] σ (some (.int res)) σ := by
  replace hf : (if (xI σ 3) = (0 : Int32) then some (-3 : Int32) else (fX1_become (0 : Fin 3) (1 : Fin 3) σ).bind (fun v1 => some (xN σ (0 : Fin 3) 2))) = some res := hf
  refine x_start (by decide) (Nat.le_of_ble_eq_true rfl) ?_
  intro p e s m args below meth c S hnm hR hS ls hl
  obtain ⟨hx, hb, hml, hown, hts⟩ := S.1.1
  have hl : lv_has ls 1 [(0, .ref (xo E))] := hl
  have hn : XN 0 0 (xnx σ) (xns σ) (xnx σ) (xns σ) σ := ⟨Nat.zero_add _, Nat.zero_add _, (rl1.rf σ).1, (rl1.rf σ).2⟩
  refine lv_aload_n hx hb dX0_back_0 rfl (lv_at hl 0 rfl) ?_
  refine x_oget (k := 3) (v := .int (xI σ 3)) S hR (lk_X0_668 _ List.mem_cons_self) rfl dX0_back_1 ?_
  refine lv_if_ne (tgt := 10) hx hb dX0_back_4 (by decide) (fun c_4 => ?_) (fun c_4 => ?_)
  · replace hf := o_f hf c_4
    refine lv_aload_n hx hb dX0_back_10 rfl (lv_at hl 0 rfl) ?_
    refine x_oget (k := 0) (v := .ref (xnt E (0 : Fin 3))) S hR (lk_X0_10 _ List.mem_cons_self) rfl dX0_back_11 ?_
    refine lv_aload_n hx hb dX0_back_14 rfl (lv_at hl 0 rfl) ?_
    refine x_oget (k := 1) (v := .ref (xnt E (1 : Fin 3))) S hR (lk_X0_16 _ List.mem_cons_self) rfl dX0_back_15 ?_
    refine k_bind hf (fun v1 hv1 hf => ?_)
    refine x_call (C := RX1) (As := [.ref (xnt E (1 : Fin 3))]) (rest := []) S hR hS hn (met_X1_become hv1) (rl1.rf _) (hn.b (rl0.rf _)) wi_X1_become (xrc S.2 hR (ci := 1) rfl (Or.inr (Or.inl ⟨_, rfl, rfl⟩))) rfl q2388 ⟨Nat.le_of_ble_eq_true rfl, Nat.le_of_ble_eq_true rfl⟩ rfl hl.1 rfl (Nat.le_of_ble_eq_true rfl) dX0_back_18 (fun H locs cells slots hR hS hn => ?_)
    refine lv_aload_n hx hb dX0_back_21 rfl (lv_at hl 0 rfl) ?_
    refine x_oget (k := 0) (v := .ref (xnt E (0 : Fin 3))) S hR (lk_X0_10 _ List.mem_cons_self) rfl dX0_back_22 ?_
    refine x_ngetN (j := (0 : Fin 3)) (k := 2) (v := .int (xN σ (0 : Fin 3) 2)) S hR (lk_X0_115 _ List.mem_cons_self) rfl dX0_back_25 ?_
    obtain rfl := Option.some.inj hf
    exact x_iret S hR hS hn rfl dX0_back_28
  · replace hf := o_t hf c_4
    refine lv_bipush (v := -3) hx hb dX0_back_7 (by decide) ?_
    obtain rfl := Option.some.inj hf
    exact x_iret S hR hS hn rfl dX0_back_9


noncomputable def fX3_init (a : Nat) (σ : xS) : Option (Unit) :=
  some ()
theorem wi_X3_init : wInfI yX3_init cX3_init 1 0 := ⟨q371, q115, q372, rfl, (by decide +kernel), (by decide +kernel), (by decide +kernel)⟩
set_option maxHeartbeats 4000000 in
set_option maxRecDepth 100000 in
theorem met_X3_init {l : Launch} {E : xG} {a : Nat} {σ : xS} {res : Unit} (hf : fX3_init a σ = some res) : xMet l yX3_init cX3_init 1 (Option.none : Option Jvm.ClassFile.FieldType) 1 24 E [.ref a] σ none σ := by
  replace hf : (some ()) = some res := hf
  refine x_start (by decide) (Nat.le_of_ble_eq_true rfl) ?_
  intro p e s m args below meth c S hnm hR hS ls hl
  obtain ⟨hx, hb, hml, hown, hts⟩ := S.1.1
  have hl : lv_has ls 1 [(0, .ref a)] := hl
  have hn : XN 0 0 (xnx σ) (xns σ) (xnx σ) (xns σ) σ := ⟨Nat.zero_add _, Nat.zero_add _, (rl1.rf σ).1, (rl1.rf σ).2⟩
  refine lv_aload_n hx hb dX3_init_0 rfl (lv_at hl 0 rfl) ?_
  refine W.objInit hx hb hown (hts _ q373) (hts _ q175) (hts _ q176) rfl (by rw [hml]; exact hl.1) rfl dX3_init_1 (Nat.le_of_ble_eq_true rfl) (Nat.le_of_ble_eq_true rfl) ?_
  obtain rfl := Option.some.inj hf
  exact x_vret S hR hS hn dX3_init_4


noncomputable def fX5_kind (a : Nat) (σ : xS) : Option (Int32) :=
  some (0 : Int32)
theorem wi_X5_kind : wInfV yX5_kind cX5_kind 1 (Option.some Jvm.ClassFile.FieldType.int) 0 := ⟨q578, q579, q117, q599, (by decide +kernel), (by decide +kernel), (by decide +kernel)⟩
set_option maxHeartbeats 4000000 in
set_option maxRecDepth 100000 in
theorem met_X5_kind {l : Launch} {E : xG} {a : Nat} {σ : xS} {res : Int32} (hf : fX5_kind a σ = some res) : xMet l yX5_kind cX5_kind 1 (Option.some Jvm.ClassFile.FieldType.int) 0 0 E [.ref a] σ (some (.int res)) σ := by
  replace hf : (some (0 : Int32)) = some res := hf
  refine x_start (by decide) (Nat.le_of_ble_eq_true rfl) ?_
  intro p e s m args below meth c S hnm hR hS ls hl
  obtain ⟨hx, hb, hml, hown, hts⟩ := S.1.1
  have hl : lv_has ls 1 [(0, .ref a)] := hl
  have hn : XN 0 0 (xnx σ) (xns σ) (xnx σ) (xns σ) σ := ⟨Nat.zero_add _, Nat.zero_add _, (rl1.rf σ).1, (rl1.rf σ).2⟩
  refine lv_iconst (v := 0) hx hb dX5_kind_0 (by decide) ?_
  obtain rfl := Option.some.inj hf
  exact x_iret S hR hS hn rfl dX5_kind_1


noncomputable def fX5_cost (a : Nat) (x1 : Int32) (σ : xS) : Option (Int32) :=
  (xgI σ [(4, 1), (5, 1), (6, 1), (7, 1), (8, 1), (9, 1)] a).bind (fun v1 => some v1)
theorem wi_X5_cost : wInfV yX5_cost cX5_cost 2 (Option.some Jvm.ClassFile.FieldType.int) 1 := ⟨q605, q606, q117, q612, (by decide +kernel), (by decide +kernel), (by decide +kernel)⟩
set_option maxHeartbeats 4000000 in
set_option maxRecDepth 100000 in
theorem met_X5_cost {l : Launch} {E : xG} {a : Nat} {x1 : Int32} {σ : xS} {res : Int32} (hf : fX5_cost a x1 σ = some res) : xMet l yX5_cost cX5_cost 2 (Option.some Jvm.ClassFile.FieldType.int) 0 0 E [.ref a, .int x1] σ (some (.int res)) σ := by
  replace hf : ((xgI σ [(4, 1), (5, 1), (6, 1), (7, 1), (8, 1), (9, 1)] a).bind (fun v1 => some v1)) = some res := hf
  refine x_start (by decide) (Nat.le_of_ble_eq_true rfl) ?_
  intro p e s m args below meth c S hnm hR hS ls hl
  obtain ⟨hx, hb, hml, hown, hts⟩ := S.1.1
  have hl : lv_has ls 2 [(0, .ref a), (1, .int x1)] := hl
  have hn : XN 0 0 (xnx σ) (xns σ) (xnx σ) (xns σ) σ := ⟨Nat.zero_add _, Nat.zero_add _, (rl1.rf σ).1, (rl1.rf σ).2⟩
  refine lv_aload_n hx hb dX5_cost_0 rfl (lv_at hl 0 rfl) ?_
  refine k_bind hf (fun v1 hv1 hf => ?_)
  refine x_get S hR lk_X5_13 (xgI_g hv1) dX5_cost_1 ?_
  obtain rfl := Option.some.inj hf
  exact x_iret S hR hS hn rfl dX5_cost_4


noncomputable def fX6_kind (a : Nat) (σ : xS) : Option (Int32) :=
  some (1 : Int32)

set_option maxHeartbeats 4000000 in
set_option maxRecDepth 100000 in
theorem met_X6_kind {l : Launch} {E : xG} {a : Nat} {σ : xS} {res : Int32} (hf : fX6_kind a σ = some res) : xMet l yX6_kind cX6_kind 1 (Option.some Jvm.ClassFile.FieldType.int) 0 0 E [.ref a] σ (some (.int res)) σ := by
  replace hf : (some (1 : Int32)) = some res := hf
  refine x_start (by decide) (Nat.le_of_ble_eq_true rfl) ?_
  intro p e s m args below meth c S hnm hR hS ls hl
  obtain ⟨hx, hb, hml, hown, hts⟩ := S.1.1
  have hl : lv_has ls 1 [(0, .ref a)] := hl
  have hn : XN 0 0 (xnx σ) (xns σ) (xnx σ) (xns σ) σ := ⟨Nat.zero_add _, Nat.zero_add _, (rl1.rf σ).1, (rl1.rf σ).2⟩
  refine lv_iconst (v := 1) hx hb dX6_kind_0 (by decide) ?_
  obtain rfl := Option.some.inj hf
  exact x_iret S hR hS hn rfl dX6_kind_1


noncomputable def fX6_cost (a : Nat) (x1 : Int32) (σ : xS) : Option (Int32) :=
  none

set_option maxHeartbeats 4000000 in
set_option maxRecDepth 100000 in
theorem met_X6_cost {l : Launch} {E : xG} {a : Nat} {x1 : Int32} {σ : xS} {res : Int32} (hf : fX6_cost a x1 σ = some res) : xMet l yX6_cost cX6_cost 2 (Option.some Jvm.ClassFile.FieldType.int) 1 24 E [.ref a, .int x1] σ (some (.int res)) σ := by
  replace hf : none = some res := hf
  refine x_start (by decide) (Nat.le_of_ble_eq_true rfl) ?_
  intro p e s m args below meth c S hnm hR hS ls hl
  obtain ⟨hx, hb, hml, hown, hts⟩ := S.1.1
  have hl : lv_has ls 2 [(0, .ref a), (1, .int x1)] := hl
  have hn : XN 0 0 (xnx σ) (xns σ) (xnx σ) (xns σ) σ := ⟨Nat.zero_add _, Nat.zero_add _, (rl1.rf σ).1, (rl1.rf σ).2⟩
  refine lv_aload_n hx hb dX6_cost_0 rfl (lv_at hl 0 rfl) ?_
  refine lv_iload_n hx hb dX6_cost_1 rfl (lv_at hl 1 rfl) ?_
  cases hf


noncomputable def fX7_kind (a : Nat) (σ : xS) : Option (Int32) :=
  some (2 : Int32)

set_option maxHeartbeats 4000000 in
set_option maxRecDepth 100000 in
theorem met_X7_kind {l : Launch} {E : xG} {a : Nat} {σ : xS} {res : Int32} (hf : fX7_kind a σ = some res) : xMet l yX7_kind cX7_kind 1 (Option.some Jvm.ClassFile.FieldType.int) 0 0 E [.ref a] σ (some (.int res)) σ := by
  replace hf : (some (2 : Int32)) = some res := hf
  refine x_start (by decide) (Nat.le_of_ble_eq_true rfl) ?_
  intro p e s m args below meth c S hnm hR hS ls hl
  obtain ⟨hx, hb, hml, hown, hts⟩ := S.1.1
  have hl : lv_has ls 1 [(0, .ref a)] := hl
  have hn : XN 0 0 (xnx σ) (xns σ) (xnx σ) (xns σ) σ := ⟨Nat.zero_add _, Nat.zero_add _, (rl1.rf σ).1, (rl1.rf σ).2⟩
  refine lv_iconst (v := 2) hx hb dX7_kind_0 (by decide) ?_
  obtain rfl := Option.some.inj hf
  exact x_iret S hR hS hn rfl dX7_kind_1
