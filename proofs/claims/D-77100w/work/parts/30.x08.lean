/-! the component, walked: X0_mate J6_max X0_busiest J6_min X0_fewestOf X0_persists X0_lambda_persists_3 X0_areCrown X0_isCrown X0_crowns -/

noncomputable def fX0_mate (x1 : Int32) (σ : xS) : Option (Int32 × xS) :=
  (fX1_isPoint (0 : Fin 3) x1 σ).bind (fun v1 => if v1 = (0 : Int32) then some ((-2 : Int32), σ) else (fX1_all (0 : Fin 3) σ).bind (fun v2 => (fX0_findsHalves v2 σ).bind (fun e3 => (fX0_with (2 : Int32) e3.2).bind (fun v4 => if v4 = (0 : Int32) then some ((-1 : Int32), e3.2) else (fX0_with (2 : Int32) e3.2).bind (fun v5 => (fX0_with (0 : Int32) e3.2).bind (fun v6 => (fX0_mateIn x1 v5 v6 e3.2).bind (fun e7 => some (e7.1, e7.2))))))))
theorem wi_X0_mate : wInfV yX0_mate cX0_mate 2 (Option.some Jvm.ClassFile.FieldType.int) 1 := ⟨q1501, q1502, q106, q1503, (by decide +kernel), (by decide +kernel), (by decide +kernel)⟩
set_option maxHeartbeats 4000000 in
set_option maxRecDepth 100000 in
theorem r0_X0_mate {x1 : Int32} {σ : xS} {res : Int32 × xS} (hf : fX0_mate x1 σ = some res) : rl0 σ res.2 := by
  replace hf : ((fX1_isPoint (0 : Fin 3) x1 σ).bind (fun v1 => if v1 = (0 : Int32) then some ((-2 : Int32), σ) else (fX1_all (0 : Fin 3) σ).bind (fun v2 => (fX0_findsHalves v2 σ).bind (fun e3 => (fX0_with (2 : Int32) e3.2).bind (fun v4 => if v4 = (0 : Int32) then some ((-1 : Int32), e3.2) else (fX0_with (2 : Int32) e3.2).bind (fun v5 => (fX0_with (0 : Int32) e3.2).bind (fun v6 => (fX0_mateIn x1 v5 v6 e3.2).bind (fun e7 => some (e7.1, e7.2))))))))) = some res := hf
  refine k_bind hf (fun v1 hv1 hf => ?_)
  by_cases c0 : v1 = (0 : Int32)
  · replace hf := o_t hf c0
    obtain rfl := Option.some.inj hf
    exact rl0.rf _
  · replace hf := o_f hf c0
    refine k_bind hf (fun v2 hv2 hf => ?_)
    refine k_bind hf (fun e3 he3 hf => ?_)
    refine rl0.tr (r0_X0_findsHalves he3) ?_
    refine k_bind hf (fun v4 hv4 hf => ?_)
    by_cases c0 : v4 = (0 : Int32)
    · replace hf := o_t hf c0
      obtain rfl := Option.some.inj hf
      exact rl0.rf _
    · replace hf := o_f hf c0
      refine k_bind hf (fun v5 hv5 hf => ?_)
      refine k_bind hf (fun v6 hv6 hf => ?_)
      refine k_bind hf (fun e7 he7 hf => ?_)
      refine rl0.tr (r0_X0_mateIn he7) ?_
      obtain rfl := Option.some.inj hf
      exact rl0.rf _
set_option maxHeartbeats 4000000 in
set_option maxRecDepth 100000 in
theorem met_X0_mate {l : Launch} {E : xG} {x1 : Int32} {σ : xS} {res : Int32 × xS} (hf : fX0_mate x1 σ = some res) : xMet l yX0_mate cX0_mate 2 (Option.some Jvm.ClassFile.FieldType.int) 23 536 E [.ref (xo E), .int x1] σ (some (.int res.1)) res.2 := by
  replace hf : ((fX1_isPoint (0 : Fin 3) x1 σ).bind (fun v1 => if v1 = (0 : Int32) then some ((-2 : Int32), σ) else (fX1_all (0 : Fin 3) σ).bind (fun v2 => (fX0_findsHalves v2 σ).bind (fun e3 => (fX0_with (2 : Int32) e3.2).bind (fun v4 => if v4 = (0 : Int32) then some ((-1 : Int32), e3.2) else (fX0_with (2 : Int32) e3.2).bind (fun v5 => (fX0_with (0 : Int32) e3.2).bind (fun v6 => (fX0_mateIn x1 v5 v6 e3.2).bind (fun e7 => some (e7.1, e7.2))))))))) = some res := hf
  refine x_start (by decide) (Nat.le_of_ble_eq_true rfl) ?_
  intro p e s m args below meth c S hnm hR hS ls hl
  obtain ⟨hx, hb, hml, hown, hts⟩ := S.1.1
  have hl : lv_has ls 2 [(0, .ref (xo E)), (1, .int x1)] := hl
  have hn : XN 0 0 (xnx σ) (xns σ) (xnx res.2) (xns res.2) σ := ⟨Nat.zero_add _, Nat.zero_add _, (r0_X0_mate (x1 := x1) (σ := σ) hf).le.1, (r0_X0_mate (x1 := x1) (σ := σ) hf).le.2⟩
  refine lv_aload_n hx hb dX0_mate_0 rfl (lv_at hl 0 rfl) ?_
  refine x_oget (k := 0) (v := .ref (xnt E (0 : Fin 3))) S hR (lk_X0_10 _ List.mem_cons_self) rfl dX0_mate_1 ?_
  refine lv_iload_n hx hb dX0_mate_4 rfl (lv_at hl 1 rfl) ?_
  refine k_bind hf (fun v1 hv1 hf => ?_)
  refine x_call (C := RX1) (As := [.int x1]) (rest := []) S hR hS hn (met_X1_isPoint hv1) (rl1.rf _) (hn.b (rl0.rf _)) wi_X1_isPoint (xrc S.2 hR (ci := 1) rfl (Or.inr (Or.inl ⟨_, rfl, rfl⟩))) rfl q559 ⟨Nat.le_of_ble_eq_true rfl, Nat.le_of_ble_eq_true rfl⟩ rfl hl.1 rfl (Nat.le_of_ble_eq_true rfl) dX0_mate_5 (fun H locs cells slots hR hS hn => ?_)
  refine lv_if_ne (tgt := 14) hx hb dX0_mate_8 (by decide) (fun c_8 => ?_) (fun c_8 => ?_)
  · replace hf := o_f hf c_8
    refine lv_aload_n hx hb dX0_mate_14 rfl (lv_at hl 0 rfl) ?_
    refine lv_aload_n hx hb dX0_mate_15 rfl (lv_at hl 0 rfl) ?_
    refine x_oget (k := 0) (v := .ref (xnt E (0 : Fin 3))) S hR (lk_X0_10 _ List.mem_cons_self) rfl dX0_mate_16 ?_
    refine k_bind hf (fun v2 hv2 hf => ?_)
    refine x_call (C := RX1) (As := []) (rest := [.ref (xo E)]) S hR hS hn (met_X1_all hv2) (rl1.rf _) (hn.b (rl0.rf _)) wi_X1_all (xrc S.2 hR (ci := 1) rfl (Or.inr (Or.inl ⟨_, rfl, rfl⟩))) rfl q663 ⟨Nat.le_of_ble_eq_true rfl, Nat.le_of_ble_eq_true rfl⟩ rfl hl.1 rfl (Nat.le_of_ble_eq_true rfl) dX0_mate_19 (fun H locs cells slots hR hS hn => ?_)
    refine k_bind hf (fun e3 he3 hf => ?_)
    refine x_call (C := RX0) (As := [.int v2]) (rest := []) S hR hS hn (met_X0_findsHalves he3) (r0_X0_findsHalves he3).le (hn.b (r0_X0_findsHalves he3)) wi_X0_findsHalves (xrc S.2 hR (ci := 0) rfl (Or.inl ⟨rfl, rfl⟩)) rfl q255 ⟨Nat.le_of_ble_eq_true rfl, Nat.le_of_ble_eq_true rfl⟩ rfl hl.1 rfl (Nat.le_of_ble_eq_true rfl) dX0_mate_22 (fun H locs cells slots hR hS hn => ?_)
    refine lv_pop hx hb dX0_mate_25 rfl ?_
    refine lv_aload_n hx hb dX0_mate_26 rfl (lv_at hl 0 rfl) ?_
    refine lv_iconst (v := 2) hx hb dX0_mate_27 (by decide) ?_
    refine k_bind hf (fun v4 hv4 hf => ?_)
    refine x_call (C := RX0) (As := [.int (2 : Int32)]) (rest := []) S hR hS hn (met_X0_with hv4) (rl1.rf _) (hn.b (rl0.rf _)) wi_X0_with (xrc S.2 hR (ci := 0) rfl (Or.inl ⟨rfl, rfl⟩)) rfl q298 ⟨Nat.le_of_ble_eq_true rfl, Nat.le_of_ble_eq_true rfl⟩ rfl hl.1 rfl (Nat.le_of_ble_eq_true rfl) dX0_mate_28 (fun H locs cells slots hR hS hn => ?_)
    refine lv_if_ne (tgt := 38) hx hb dX0_mate_31 (by decide) (fun c_31 => ?_) (fun c_31 => ?_)
    · replace hf := o_f hf c_31
      refine lv_aload_n hx hb dX0_mate_38 rfl (lv_at hl 0 rfl) ?_
      refine lv_iload_n hx hb dX0_mate_39 rfl (lv_at hl 1 rfl) ?_
      refine lv_aload_n hx hb dX0_mate_40 rfl (lv_at hl 0 rfl) ?_
      refine lv_iconst (v := 2) hx hb dX0_mate_41 (by decide) ?_
      refine k_bind hf (fun v5 hv5 hf => ?_)
      refine x_call (C := RX0) (As := [.int (2 : Int32)]) (rest := [.int x1, .ref (xo E)]) S hR hS hn (met_X0_with hv5) (rl1.rf _) (hn.b (rl0.rf _)) wi_X0_with (xrc S.2 hR (ci := 0) rfl (Or.inl ⟨rfl, rfl⟩)) rfl q298 ⟨Nat.le_of_ble_eq_true rfl, Nat.le_of_ble_eq_true rfl⟩ rfl hl.1 rfl (Nat.le_of_ble_eq_true rfl) dX0_mate_42 (fun H locs cells slots hR hS hn => ?_)
      refine lv_aload_n hx hb dX0_mate_45 rfl (lv_at hl 0 rfl) ?_
      refine lv_iconst (v := 0) hx hb dX0_mate_46 (by decide) ?_
      refine k_bind hf (fun v6 hv6 hf => ?_)
      refine x_call (C := RX0) (As := [.int (0 : Int32)]) (rest := [.int v5, .int x1, .ref (xo E)]) S hR hS hn (met_X0_with hv6) (rl1.rf _) (hn.b (rl0.rf _)) wi_X0_with (xrc S.2 hR (ci := 0) rfl (Or.inl ⟨rfl, rfl⟩)) rfl q298 ⟨Nat.le_of_ble_eq_true rfl, Nat.le_of_ble_eq_true rfl⟩ rfl hl.1 rfl (Nat.le_of_ble_eq_true rfl) dX0_mate_47 (fun H locs cells slots hR hS hn => ?_)
      refine k_bind hf (fun e7 he7 hf => ?_)
      refine x_call (C := RX0) (As := [.int x1, .int v5, .int v6]) (rest := []) S hR hS hn (met_X0_mateIn he7) (r0_X0_mateIn he7).le (hn.b (r0_X0_mateIn he7)) wi_X0_mateIn (xrc S.2 hR (ci := 0) rfl (Or.inl ⟨rfl, rfl⟩)) rfl q1504 ⟨Nat.le_of_ble_eq_true rfl, Nat.le_of_ble_eq_true rfl⟩ rfl hl.1 rfl (Nat.le_of_ble_eq_true rfl) dX0_mate_50 (fun H locs cells slots hR hS hn => ?_)
      obtain rfl := Option.some.inj hf
      exact x_iret S hR hS hn rfl dX0_mate_53
    · replace hf := o_t hf c_31
      refine lv_iconst (v := -1) hx hb dX0_mate_34 (by decide) ?_
      refine lv_goto (tgt := 53) hx hb dX0_mate_35 (by decide) ?_
      obtain rfl := Option.some.inj hf
      exact x_iret S hR hS hn rfl dX0_mate_53
  · replace hf := o_t hf c_8
    refine lv_bipush (v := -2) hx hb dX0_mate_11 (by decide) ?_
    obtain rfl := Option.some.inj hf
    exact x_iret S hR hS hn rfl dX0_mate_13


noncomputable def fJ6_max (x0 : Int32) (x1 : Int32) : Int32 :=
  if x0 < x1 then x1 else x0
theorem wi_J6_max : wInfS yJ6_max cJ6_max 2 (Option.some Jvm.ClassFile.FieldType.int) 2 := ⟨q625, q123, q626, (by decide +kernel), (by decide +kernel), (by decide +kernel)⟩
set_option maxHeartbeats 4000000 in
set_option maxRecDepth 100000 in
theorem met_J6_max {l : Launch} {x0 : Int32} {x1 : Int32} {res : Int32} (hf : fJ6_max x0 x1 = res) : sMet l yJ6_max cJ6_max 2 (Option.some Jvm.ClassFile.FieldType.int) (mRm 0 0) [.int x0, .int x1] (some (.int res)) := by
  replace hf : (if x0 < x1 then x1 else x0) = res := hf
  refine s_start (by decide) (Nat.le_of_ble_eq_true rfl) ?_
  intro p e s m args below meth c S ls hl
  obtain ⟨hx, hb, hml, hown, hts⟩ := S.1
  have hl : lv_has ls 2 [(0, .int x0), (1, .int x1)] := hl
  refine lv_iload_n hx hb dJ6_max_0 rfl (lv_at hl 0 rfl) ?_
  refine lv_iload_n hx hb dJ6_max_1 rfl (lv_at hl 1 rfl) ?_
  refine lv_icmp_lt (tgt := 9) hx hb dJ6_max_2 (by decide) (fun c_2 => ?_) (fun c_2 => ?_)
  · replace hf := o_t hf c_2
    refine lv_iload_n hx hb dJ6_max_9 rfl (lv_at hl 1 rfl) ?_
    subst hf
    exact s_iret S rfl dJ6_max_10
  · replace hf := o_f hf c_2
    refine lv_iload_n hx hb dJ6_max_5 rfl (lv_at hl 0 rfl) ?_
    refine lv_goto (tgt := 10) hx hb dJ6_max_6 (by decide) ?_
    subst hf
    exact s_iret S rfl dJ6_max_10


noncomputable def KX0_busiest_7_56 (y1 : Int32) (y3 : Int32) (y4 : Int32) (y5 : Int32) (z0 : Int32) (σ : xS) : Option ((Int32 × Int32 × Int32) ⊕ (Int32)) :=
  (some (fJ6_max y3 y5)).bind (fun v1 => some (Sum.inl (z0, v1, y4 + (1 : Int32))))
noncomputable def KX0_busiest_7_42 (y1 : Int32) (y2 : Int32) (y3 : Int32) (y4 : Int32) (z0 : Int32) (σ : xS) : Option ((Int32 × Int32 × Int32) ⊕ (Int32)) :=
  if z0 ≤ y3 then KX0_busiest_7_56 y1 y3 y4 z0 y2 σ else KX0_busiest_7_56 y1 y3 y4 z0 y4 σ
noncomputable def LX0_busiest_7 (y1 : Int32) (σ : xS) (q : Int32 × Int32 × Int32) : Option ((Int32 × Int32 × Int32) ⊕ (Int32)) :=
  if (xN σ (0 : Fin 3) 2) ≤ q.2.2 then some (Sum.inr q.1) else if (fX0_has y1 q.2.2) = (0 : Int32) then KX0_busiest_7_42 y1 q.1 q.2.1 q.2.2 (0 : Int32) σ else (fX1_lines (0 : Fin 3) q.2.2 y1 σ).bind (fun v2 => KX0_busiest_7_42 y1 q.1 q.2.1 q.2.2 v2 σ)
noncomputable def fX0_busiest (x1 : Int32) (σ : xS) : Option (Int32) :=
  (lpw (LX0_busiest_7 x1 σ) ((-1 : Int32), (0 : Int32), (0 : Int32))).bind (fun b3 => some b3)
theorem wi_X0_busiest : wInfV yX0_busiest cX0_busiest 6 (Option.some Jvm.ClassFile.FieldType.int) 1 := ⟨q1522, qs23, q106, q1523, (by decide +kernel), (by decide +kernel), (by decide +kernel)⟩
set_option maxHeartbeats 4000000 in
set_option maxRecDepth 100000 in
theorem wKX0_busiest_7_56 {l : Launch} {E : xG} {p : Program} {e : Env} {s : State} {m : MethodId} {args : Array Value} {below : List Frame} {meth : Method} {c : Code} {Q : State → Prop} {n0 s0 nf sf : Nat} {y1 : Int32} {y3 : Int32} {y4 : Int32} {y5 : Int32} {z0 : Int32} {σ : xS} {res : (Int32 × Int32 × Int32) ⊕ (Int32)} (S : xSt E RX0 p m c cX0_busiest 6 s args meth (Option.some Jvm.ClassFile.FieldType.int)) (hf : KX0_busiest_7_56 y1 y3 y4 y5 z0 σ = some res) (hK : ∀ q, res = Sum.inl q → (∀ (H : Heap) (locs : List Loc) (cells slots : Nat) (ls : Array Slot), xR E σ H → va_S (xAA E) s.heap H locs → XN cells slots n0 s0 nf sf σ → lv_has ls 6 [(0, .ref (xo E)), (1, .int y1), (2, .int q.1), (3, .int q.2.1), (4, .int q.2.2)] → W p l e (xRm 3 62 (nf - n0) (sf - s0)) s m args below meth c H locs cells slots Q (F0 m 7 ls []))) (hE70 : ∀ b, res = Sum.inr b → (∀ (H : Heap) (locs : List Loc) (cells slots : Nat) (ls : Array Slot), xR E σ H → va_S (xAA E) s.heap H locs → XN cells slots n0 s0 nf sf σ → lv_has ls 6 [(2, .int b)] → W p l e (xRm 3 62 (nf - n0) (sf - s0)) s m args below meth c H locs cells slots Q (F0 m 70 ls []))) : ∀ (H : Heap) (locs : List Loc) (cells slots : Nat) (ls : Array Slot), xR E σ H → va_S (xAA E) s.heap H locs → XN cells slots n0 s0 nf sf σ → lv_has ls 6 [(0, .ref (xo E)), (1, .int y1), (3, .int y3), (4, .int y4), (5, .int y5)] → W p l e (xRm 3 62 (nf - n0) (sf - s0)) s m args below meth c H locs cells slots Q (F0 m 56 ls [.int z0]) := by
  replace hf : ((some (fJ6_max y3 y5)).bind (fun v1 => some (Sum.inl (z0, v1, y4 + (1 : Int32))))) = some res := hf
  obtain ⟨hx, hb, hml, hown, hts⟩ := S.1.1
  intro H locs cells slots ls hR hS hn hl
  refine lv_istore_n (lv' := [(2, .int z0), (0, .ref (xo E)), (1, .int y1), (3, .int y3), (4, .int y4), (5, .int y5)]) hx hb dX0_busiest_56 rfl hl (by decide) rfl (fun ls hl => ?_)
  refine lv_iload_n hx hb dX0_busiest_57 rfl (lv_at hl 3 rfl) ?_
  refine lv_iload hx hb dX0_busiest_58 (lv_at hl 5 rfl) ?_
  refine s_call (As := [.int y3, .int y5]) (rest := []) S.1.1 (met_J6_max rfl) wi_J6_max q1480 ⟨rfl, rfl⟩ ⟨Nat.le_of_ble_eq_true rfl, Nat.le_of_ble_eq_true rfl⟩ rfl hl.1 rfl (Nat.le_of_ble_eq_true rfl) dX0_busiest_60 hn.cs ?_
  refine k_bind hf (fun v1 hv1 hf => ?_)
  refine m_nmi hv1 ?_
  refine lv_istore_n (lv' := [(3, .int v1), (2, .int z0), (0, .ref (xo E)), (1, .int y1), (4, .int y4), (5, .int y5)]) hx hb dX0_busiest_63 rfl hl (by decide) rfl (fun ls hl => ?_)
  refine lv_iinc (lv' := [(4, .int (y4 + (1 : Int32))), (3, .int v1), (2, .int z0), (0, .ref (xo E)), (1, .int y1), (5, .int y5)]) hx hb dX0_busiest_64 hl (k := 4) rfl (m_inc (by decide)) (by decide) rfl (fun ls hl => ?_)
  refine lv_goto (tgt := 7) hx hb dX0_busiest_67 (by decide) ?_
  exact hK _ (Option.some.inj hf).symm _ _ _ _ _ hR hS hn (lv_sub (l' := [(0, .ref (xo E)), (1, .int y1), (2, .int z0), (3, .int v1), (4, .int (y4 + (1 : Int32)))]) hl [3, 4, 2, 1, 0] rfl)
set_option maxHeartbeats 4000000 in
set_option maxRecDepth 100000 in
theorem wKX0_busiest_7_42 {l : Launch} {E : xG} {p : Program} {e : Env} {s : State} {m : MethodId} {args : Array Value} {below : List Frame} {meth : Method} {c : Code} {Q : State → Prop} {n0 s0 nf sf : Nat} {y1 : Int32} {y2 : Int32} {y3 : Int32} {y4 : Int32} {z0 : Int32} {σ : xS} {res : (Int32 × Int32 × Int32) ⊕ (Int32)} (S : xSt E RX0 p m c cX0_busiest 6 s args meth (Option.some Jvm.ClassFile.FieldType.int)) (hf : KX0_busiest_7_42 y1 y2 y3 y4 z0 σ = some res) (hK : ∀ q, res = Sum.inl q → (∀ (H : Heap) (locs : List Loc) (cells slots : Nat) (ls : Array Slot), xR E σ H → va_S (xAA E) s.heap H locs → XN cells slots n0 s0 nf sf σ → lv_has ls 6 [(0, .ref (xo E)), (1, .int y1), (2, .int q.1), (3, .int q.2.1), (4, .int q.2.2)] → W p l e (xRm 3 62 (nf - n0) (sf - s0)) s m args below meth c H locs cells slots Q (F0 m 7 ls []))) (hE70 : ∀ b, res = Sum.inr b → (∀ (H : Heap) (locs : List Loc) (cells slots : Nat) (ls : Array Slot), xR E σ H → va_S (xAA E) s.heap H locs → XN cells slots n0 s0 nf sf σ → lv_has ls 6 [(2, .int b)] → W p l e (xRm 3 62 (nf - n0) (sf - s0)) s m args below meth c H locs cells slots Q (F0 m 70 ls []))) : ∀ (H : Heap) (locs : List Loc) (cells slots : Nat) (ls : Array Slot), xR E σ H → va_S (xAA E) s.heap H locs → XN cells slots n0 s0 nf sf σ → lv_has ls 6 [(0, .ref (xo E)), (1, .int y1), (2, .int y2), (3, .int y3), (4, .int y4)] → W p l e (xRm 3 62 (nf - n0) (sf - s0)) s m args below meth c H locs cells slots Q (F0 m 42 ls [.int z0]) := by
  replace hf : (if z0 ≤ y3 then KX0_busiest_7_56 y1 y3 y4 z0 y2 σ else KX0_busiest_7_56 y1 y3 y4 z0 y4 σ) = some res := hf
  obtain ⟨hx, hb, hml, hown, hts⟩ := S.1.1
  intro H locs cells slots ls hR hS hn hl
  refine lv_istore (lv' := [(5, .int z0), (0, .ref (xo E)), (1, .int y1), (2, .int y2), (3, .int y3), (4, .int y4)]) hx hb dX0_busiest_42 hl (by decide) rfl (fun ls hl => ?_)
  refine lv_iload hx hb dX0_busiest_44 (lv_at hl 0 rfl) ?_
  refine lv_iload_n hx hb dX0_busiest_46 rfl (lv_at hl 4 rfl) ?_
  refine lv_icmp_le (tgt := 55) hx hb dX0_busiest_47 (by decide) (fun c_47 => ?_) (fun c_47 => ?_)
  · replace hf := o_t hf c_47
    refine lv_iload_n hx hb dX0_busiest_55 rfl (lv_at hl 3 rfl) ?_
    exact wKX0_busiest_7_56 S hf hK hE70 _ _ _ _ _ hR hS hn (lv_sub (l' := [(0, .ref (xo E)), (1, .int y1), (3, .int y3), (4, .int y4), (5, .int z0)]) hl [1, 2, 4, 5, 0] rfl)
  · replace hf := o_f hf c_47
    refine lv_iload hx hb dX0_busiest_50 (lv_at hl 5 rfl) ?_
    refine lv_goto (tgt := 56) hx hb dX0_busiest_52 (by decide) ?_
    exact wKX0_busiest_7_56 S hf hK hE70 _ _ _ _ _ hR hS hn (lv_sub (l' := [(0, .ref (xo E)), (1, .int y1), (3, .int y3), (4, .int y4), (5, .int z0)]) hl [1, 2, 4, 5, 0] rfl)
set_option maxHeartbeats 4000000 in
set_option maxRecDepth 100000 in
theorem wbLX0_busiest_7 {l : Launch} {E : xG} {p : Program} {e : Env} {s : State} {m : MethodId} {args : Array Value} {below : List Frame} {meth : Method} {c : Code} {Q : State → Prop} {n0 s0 nf sf : Nat} {y1 : Int32} {σ : xS} {q : Int32 × Int32 × Int32} {res : (Int32 × Int32 × Int32) ⊕ (Int32)} (S : xSt E RX0 p m c cX0_busiest 6 s args meth (Option.some Jvm.ClassFile.FieldType.int)) (hf : LX0_busiest_7 y1 σ q = some res) (hK : ∀ q, res = Sum.inl q → (∀ (H : Heap) (locs : List Loc) (cells slots : Nat) (ls : Array Slot), xR E σ H → va_S (xAA E) s.heap H locs → XN cells slots n0 s0 nf sf σ → lv_has ls 6 [(0, .ref (xo E)), (1, .int y1), (2, .int q.1), (3, .int q.2.1), (4, .int q.2.2)] → W p l e (xRm 3 62 (nf - n0) (sf - s0)) s m args below meth c H locs cells slots Q (F0 m 7 ls []))) (hE70 : ∀ b, res = Sum.inr b → (∀ (H : Heap) (locs : List Loc) (cells slots : Nat) (ls : Array Slot), xR E σ H → va_S (xAA E) s.heap H locs → XN cells slots n0 s0 nf sf σ → lv_has ls 6 [(2, .int b)] → W p l e (xRm 3 62 (nf - n0) (sf - s0)) s m args below meth c H locs cells slots Q (F0 m 70 ls []))) : (∀ (H : Heap) (locs : List Loc) (cells slots : Nat) (ls : Array Slot), xR E σ H → va_S (xAA E) s.heap H locs → XN cells slots n0 s0 nf sf σ → lv_has ls 6 [(0, .ref (xo E)), (1, .int y1), (2, .int q.1), (3, .int q.2.1), (4, .int q.2.2)] → W p l e (xRm 3 62 (nf - n0) (sf - s0)) s m args below meth c H locs cells slots Q (F0 m 7 ls [])) := by
  replace hf : (if (xN σ (0 : Fin 3) 2) ≤ q.2.2 then some (Sum.inr q.1) else if (fX0_has y1 q.2.2) = (0 : Int32) then KX0_busiest_7_42 y1 q.1 q.2.1 q.2.2 (0 : Int32) σ else (fX1_lines (0 : Fin 3) q.2.2 y1 σ).bind (fun v2 => KX0_busiest_7_42 y1 q.1 q.2.1 q.2.2 v2 σ)) = some res := hf
  obtain ⟨hx, hb, hml, hown, hts⟩ := S.1.1
  intro H locs cells slots ls hR hS hn hl
  refine lv_iload hx hb dX0_busiest_7 (lv_at hl 4 rfl) ?_
  refine lv_aload_n hx hb dX0_busiest_9 rfl (lv_at hl 0 rfl) ?_
  refine x_oget (k := 0) (v := .ref (xnt E (0 : Fin 3))) S hR (lk_X0_10 _ List.mem_cons_self) rfl dX0_busiest_10 ?_
  refine x_ngetN (j := (0 : Fin 3)) (k := 2) (v := .int (xN σ (0 : Fin 3) 2)) S hR (lk_X0_115 _ List.mem_cons_self) rfl dX0_busiest_13 ?_
  refine lv_icmp_ge (tgt := 70) hx hb dX0_busiest_16 (by decide) (fun c_16 => ?_) (fun c_16 => ?_)
  · replace hf := o_t hf c_16
    exact hE70 _ (Option.some.inj hf).symm _ _ _ _ _ hR hS hn (lv_sub (l' := [(2, .int q.1)]) hl [2] rfl)
  · replace hf := o_f hf c_16
    refine lv_iload_n hx hb dX0_busiest_19 rfl (lv_at hl 1 rfl) ?_
    refine lv_iload hx hb dX0_busiest_20 (lv_at hl 4 rfl) ?_
    refine s_call (As := [.int y1, .int q.2.2]) (rest := []) S.1.1 (met_X0_has rfl) wi_X0_has q210 ⟨rfl, rfl⟩ ⟨Nat.le_of_ble_eq_true rfl, Nat.le_of_ble_eq_true rfl⟩ rfl hl.1 rfl (Nat.le_of_ble_eq_true rfl) dX0_busiest_22 hn.cs ?_
    refine lv_if_eq (tgt := 41) hx hb dX0_busiest_25 (by decide) (fun c_25 => ?_) (fun c_25 => ?_)
    · replace hf := o_t hf c_25
      refine lv_iconst (v := 0) hx hb dX0_busiest_41 (by decide) ?_
      exact wKX0_busiest_7_42 S hf hK hE70 _ _ _ _ _ hR hS hn hl
    · replace hf := o_f hf c_25
      refine lv_aload_n hx hb dX0_busiest_28 rfl (lv_at hl 0 rfl) ?_
      refine x_oget (k := 0) (v := .ref (xnt E (0 : Fin 3))) S hR (lk_X0_10 _ List.mem_cons_self) rfl dX0_busiest_29 ?_
      refine lv_iload hx hb dX0_busiest_32 (lv_at hl 4 rfl) ?_
      refine lv_iload_n hx hb dX0_busiest_34 rfl (lv_at hl 1 rfl) ?_
      refine k_bind hf (fun v2 hv2 hf => ?_)
      refine x_call (C := RX1) (As := [.int q.2.2, .int y1]) (rest := []) S hR hS hn (met_X1_lines hv2) (rl1.rf _) (hn.b (rl0.rf _)) wi_X1_lines (xrc S.2 hR (ci := 1) rfl (Or.inr (Or.inl ⟨_, rfl, rfl⟩))) rfl q213 ⟨Nat.le_of_ble_eq_true rfl, Nat.le_of_ble_eq_true rfl⟩ rfl hl.1 rfl (Nat.le_of_ble_eq_true rfl) dX0_busiest_35 (fun H locs cells slots hR hS hn => ?_)
      refine lv_goto (tgt := 42) hx hb dX0_busiest_38 (by decide) ?_
      exact wKX0_busiest_7_42 S hf hK hE70 _ _ _ _ _ hR hS hn hl
set_option maxHeartbeats 4000000 in
set_option maxRecDepth 100000 in
theorem wLX0_busiest_7 {l : Launch} {E : xG} {p : Program} {e : Env} {s : State} {m : MethodId} {args : Array Value} {below : List Frame} {meth : Method} {c : Code} {Q : State → Prop} {n0 s0 nf sf : Nat} {y1 : Int32} {σ : xS} {q : Int32 × Int32 × Int32} {res : Int32} (S : xSt E RX0 p m c cX0_busiest 6 s args meth (Option.some Jvm.ClassFile.FieldType.int)) (h : lpw (LX0_busiest_7 y1 σ) q = some res) (hE70 : ∀ b, res = b → (∀ (H : Heap) (locs : List Loc) (cells slots : Nat) (ls : Array Slot), xR E σ H → va_S (xAA E) s.heap H locs → XN cells slots n0 s0 nf sf σ → lv_has ls 6 [(2, .int b)] → W p l e (xRm 3 62 (nf - n0) (sf - s0)) s m args below meth c H locs cells slots Q (F0 m 70 ls []))) : (∀ (H : Heap) (locs : List Loc) (cells slots : Nat) (ls : Array Slot), xR E σ H → va_S (xAA E) s.heap H locs → XN cells slots n0 s0 nf sf σ → lv_has ls 6 [(0, .ref (xo E)), (1, .int y1), (2, .int q.1), (3, .int q.2.1), (4, .int q.2.2)] → W p l e (xRm 3 62 (nf - n0) (sf - s0)) s m args below meth c H locs cells slots Q (F0 m 7 ls [])) :=
  lpw_go _ (fun q => (∀ (H : Heap) (locs : List Loc) (cells slots : Nat) (ls : Array Slot), xR E σ H → va_S (xAA E) s.heap H locs → XN cells slots n0 s0 nf sf σ → lv_has ls 6 [(0, .ref (xo E)), (1, .int y1), (2, .int q.1), (3, .int q.2.1), (4, .int q.2.2)] → W p l e (xRm 3 62 (nf - n0) (sf - s0)) s m args below meth c H locs cells slots Q (F0 m 7 ls []))) (fun b0 => (∀ b, b0 = b → (∀ (H : Heap) (locs : List Loc) (cells slots : Nat) (ls : Array Slot), xR E σ H → va_S (xAA E) s.heap H locs → XN cells slots n0 s0 nf sf σ → lv_has ls 6 [(2, .int b)] → W p l e (xRm 3 62 (nf - n0) (sf - s0)) s m args below meth c H locs cells slots Q (F0 m 70 ls [])))) (fun q x hf hK hX => wbLX0_busiest_7 S hf hK (fun b eb => (hX _ eb) b rfl)) q res h hE70
set_option maxHeartbeats 4000000 in
set_option maxRecDepth 100000 in
theorem met_X0_busiest {l : Launch} {E : xG} {x1 : Int32} {σ : xS} {res : Int32} (hf : fX0_busiest x1 σ = some res) : xMet l yX0_busiest cX0_busiest 6 (Option.some Jvm.ClassFile.FieldType.int) 3 62 E [.ref (xo E), .int x1] σ (some (.int res)) σ := by
  replace hf : ((lpw (LX0_busiest_7 x1 σ) ((-1 : Int32), (0 : Int32), (0 : Int32))).bind (fun b3 => some b3)) = some res := hf
  refine x_start (by decide) (Nat.le_of_ble_eq_true rfl) ?_
  intro p e s m args below meth c S hnm hR hS ls hl
  obtain ⟨hx, hb, hml, hown, hts⟩ := S.1.1
  have hl : lv_has ls 6 [(0, .ref (xo E)), (1, .int x1)] := hl
  have hn : XN 0 0 (xnx σ) (xns σ) (xnx σ) (xns σ) σ := ⟨Nat.zero_add _, Nat.zero_add _, (rl1.rf σ).1, (rl1.rf σ).2⟩
  refine lv_iconst (v := -1) hx hb dX0_busiest_0 (by decide) ?_
  refine lv_istore_n (lv' := [(2, .int (-1 : Int32)), (0, .ref (xo E)), (1, .int x1)]) hx hb dX0_busiest_1 rfl hl (by decide) rfl (fun ls hl => ?_)
  refine lv_iconst (v := 0) hx hb dX0_busiest_2 (by decide) ?_
  refine lv_istore_n (lv' := [(3, .int (0 : Int32)), (2, .int (-1 : Int32)), (0, .ref (xo E)), (1, .int x1)]) hx hb dX0_busiest_3 rfl hl (by decide) rfl (fun ls hl => ?_)
  refine lv_iconst (v := 0) hx hb dX0_busiest_4 (by decide) ?_
  refine lv_istore (lv' := [(4, .int (0 : Int32)), (3, .int (0 : Int32)), (2, .int (-1 : Int32)), (0, .ref (xo E)), (1, .int x1)]) hx hb dX0_busiest_5 hl (by decide) rfl (fun ls hl => ?_)
  refine k_bind hf (fun b3 hb3 hf => ?_)
  refine wLX0_busiest_7 S hb3 ?_ _ _ _ _ _ hR hS hn (lv_sub (l' := [(0, .ref (xo E)), (1, .int x1), (2, .int (-1 : Int32)), (3, .int (0 : Int32)), (4, .int (0 : Int32))]) hl [3, 4, 2, 1, 0] rfl)
  · intro b eb; subst eb; intro H locs cells slots ls hR hS hn hl
    refine lv_iload_n hx hb dX0_busiest_70 rfl (lv_at hl 0 rfl) ?_
    obtain rfl := Option.some.inj hf
    exact x_iret S hR hS hn rfl dX0_busiest_71


noncomputable def fJ6_min (x0 : Int32) (x1 : Int32) : Int32 :=
  if x1 < x0 then x1 else x0
theorem wi_J6_min : wInfS yJ6_min cJ6_min 2 (Option.some Jvm.ClassFile.FieldType.int) 2 := ⟨q773, q123, q774, (by decide +kernel), (by decide +kernel), (by decide +kernel)⟩
set_option maxHeartbeats 4000000 in
set_option maxRecDepth 100000 in
theorem met_J6_min {l : Launch} {x0 : Int32} {x1 : Int32} {res : Int32} (hf : fJ6_min x0 x1 = res) : sMet l yJ6_min cJ6_min 2 (Option.some Jvm.ClassFile.FieldType.int) (mRm 0 0) [.int x0, .int x1] (some (.int res)) := by
  replace hf : (if x1 < x0 then x1 else x0) = res := hf
  refine s_start (by decide) (Nat.le_of_ble_eq_true rfl) ?_
  intro p e s m args below meth c S ls hl
  obtain ⟨hx, hb, hml, hown, hts⟩ := S.1
  have hl : lv_has ls 2 [(0, .int x0), (1, .int x1)] := hl
  refine lv_iload_n hx hb dJ6_min_0 rfl (lv_at hl 0 rfl) ?_
  refine lv_iload_n hx hb dJ6_min_1 rfl (lv_at hl 1 rfl) ?_
  refine lv_icmp_gt (tgt := 9) hx hb dJ6_min_2 (by decide) (fun c_2 => ?_) (fun c_2 => ?_)
  · replace hf := o_t hf c_2
    refine lv_iload_n hx hb dJ6_min_9 rfl (lv_at hl 1 rfl) ?_
    subst hf
    exact s_iret S rfl dJ6_min_10
  · replace hf := o_f hf c_2
    refine lv_iload_n hx hb dJ6_min_5 rfl (lv_at hl 0 rfl) ?_
    refine lv_goto (tgt := 10) hx hb dJ6_min_6 (by decide) ?_
    subst hf
    exact s_iret S rfl dJ6_min_10


noncomputable def BX0_fewestOf (rec : (Int32) → xS → Option (Int32)) (x1 : Int32) (σ : xS) : Option (Int32) :=
  (fX0_busiest x1 σ).bind (fun v1 => if v1 = (-1 : Int32) then some (0 : Int32) else (xla 1 σ 11 v1).bind (fun v2 => (some (v2 &&& x1)).bind (fun v3 => (rec (x1 &&& ((ish (1 : Int32) v1) ^^^ (-1 : Int32))) σ).bind (fun v4 => (some ((1 : Int32) + v4)).bind (fun v5 => (fX0_ones v3).bind (fun v6 => if v6 = (1 : Int32) then some v5 else (fX0_ones v3).bind (fun v7 => (rec ((x1 &&& (v3 ^^^ (-1 : Int32))) &&& ((ish (1 : Int32) v1) ^^^ (-1 : Int32))) σ).bind (fun v8 => some (fJ6_min v5 (v7 + v8))))))))))
noncomputable def fX0_fewestOf : Nat → (Int32) → xS → Option (Int32)
  | 0 => fun _ _ => none
  | d + 1 => BX0_fewestOf (fX0_fewestOf d)
theorem wi_X0_fewestOf : wInfV yX0_fewestOf cX0_fewestOf 5 (Option.some Jvm.ClassFile.FieldType.int) 1 := ⟨q1518, qs22, q106, q1519, (by decide +kernel), (by decide +kernel), (by decide +kernel)⟩
set_option maxHeartbeats 4000000 in
set_option maxRecDepth 100000 in
theorem wBX0_fewestOf {l : Launch} {E : xG} {d : Nat} {rec : (Int32) → xS → Option (Int32)} {x1 : Int32} {σ : xS} {res : Int32} (hrec : ∀ {x1 : Int32} {σ : xS} {res : Int32}, rec x1 σ = some res → xMet l yX0_fewestOf cX0_fewestOf 5 (Option.some Jvm.ClassFile.FieldType.int) (d + 4) (24 * (d) + 87) E [.ref (xo E), .int x1] σ (some (.int res)) σ) (hf : BX0_fewestOf rec x1 σ = some res) : xMet l yX0_fewestOf cX0_fewestOf 5 (Option.some Jvm.ClassFile.FieldType.int) (d + 1 + 4) (24 * (d + 1) + 87) E [.ref (xo E), .int x1] σ (some (.int res)) σ := by
  replace hf : ((fX0_busiest x1 σ).bind (fun v1 => if v1 = (-1 : Int32) then some (0 : Int32) else (xla 1 σ 11 v1).bind (fun v2 => (some (v2 &&& x1)).bind (fun v3 => (rec (x1 &&& ((ish (1 : Int32) v1) ^^^ (-1 : Int32))) σ).bind (fun v4 => (some ((1 : Int32) + v4)).bind (fun v5 => (fX0_ones v3).bind (fun v6 => if v6 = (1 : Int32) then some v5 else (fX0_ones v3).bind (fun v7 => (rec ((x1 &&& (v3 ^^^ (-1 : Int32))) &&& ((ish (1 : Int32) v1) ^^^ (-1 : Int32))) σ).bind (fun v8 => some (fJ6_min v5 (v7 + v8))))))))))) = some res := hf
  refine x_start (by decide) (Nat.le_of_ble_eq_true rfl) ?_
  intro p e s m args below meth c S hnm hR hS ls hl
  obtain ⟨hx, hb, hml, hown, hts⟩ := S.1.1
  have hl : lv_has ls 5 [(0, .ref (xo E)), (1, .int x1)] := hl
  have hn : XN 0 0 (xnx σ) (xns σ) (xnx σ) (xns σ) σ := ⟨Nat.zero_add _, Nat.zero_add _, (rl1.rf σ).1, (rl1.rf σ).2⟩
  refine lv_aload_n hx hb dX0_fewestOf_0 rfl (lv_at hl 0 rfl) ?_
  refine lv_iload_n hx hb dX0_fewestOf_1 rfl (lv_at hl 1 rfl) ?_
  refine k_bind hf (fun v1 hv1 hf => ?_)
  refine x_call (C := RX0) (As := [.int x1]) (rest := []) S hR hS hn (met_X0_busiest hv1) (rl1.rf _) (hn.b (rl0.rf _)) wi_X0_busiest (xrc S.2 hR (ci := 0) rfl (Or.inl ⟨rfl, rfl⟩)) rfl q1520 ⟨by omega, by omega⟩ rfl hl.1 rfl (Nat.le_of_ble_eq_true rfl) dX0_fewestOf_2 (fun H locs cells slots hR hS hn => ?_)
  refine lv_istore_n (lv' := [(2, .int v1), (0, .ref (xo E)), (1, .int x1)]) hx hb dX0_fewestOf_5 rfl hl (by decide) rfl (fun ls hl => ?_)
  refine lv_iload_n hx hb dX0_fewestOf_6 rfl (lv_at hl 0 rfl) ?_
  refine lv_iconst (v := -1) hx hb dX0_fewestOf_7 (by decide) ?_
  refine lv_icmp_ne (tgt := 13) hx hb dX0_fewestOf_8 (by decide) (fun c_8 => ?_) (fun c_8 => ?_)
  · replace hf := o_f hf c_8
    refine lv_aload_n hx hb dX0_fewestOf_13 rfl (lv_at hl 1 rfl) ?_
    refine x_oget (k := 0) (v := .ref (xnt E (0 : Fin 3))) S hR (lk_X0_10 _ List.mem_cons_self) rfl dX0_fewestOf_14 ?_
    refine x_ngetN (j := (0 : Fin 3)) (k := 1) (v := .ref (xar E 11)) S hR (lk_X0_152 _ List.mem_cons_self) rfl dX0_fewestOf_17 ?_
    refine lv_iload_n hx hb dX0_fewestOf_20 rfl (lv_at hl 0 rfl) ?_
    refine k_bind hf (fun v2 hv2 hf => ?_)
    refine x_sl1 S hR hv2 dX0_fewestOf_21 ?_
    refine lv_iload_n hx hb dX0_fewestOf_22 rfl (lv_at hl 2 rfl) ?_
    refine lv_iand hx hb dX0_fewestOf_23 ?_
    refine k_bind hf (fun v3 hv3 hf => ?_)
    refine m_nmi hv3 ?_
    refine lv_istore_n (lv' := [(3, .int v3), (2, .int v1), (0, .ref (xo E)), (1, .int x1)]) hx hb dX0_fewestOf_24 rfl hl (by decide) rfl (fun ls hl => ?_)
    refine lv_iconst (v := 1) hx hb dX0_fewestOf_25 (by decide) ?_
    refine lv_aload_n hx hb dX0_fewestOf_26 rfl (lv_at hl 2 rfl) ?_
    refine lv_iload_n hx hb dX0_fewestOf_27 rfl (lv_at hl 3 rfl) ?_
    refine lv_iconst (v := 1) hx hb dX0_fewestOf_28 (by decide) ?_
    refine lv_iload_n hx hb dX0_fewestOf_29 rfl (lv_at hl 1 rfl) ?_
    refine lv_ishl hx hb dX0_fewestOf_30 ?_
    refine lv_iconst (v := -1) hx hb dX0_fewestOf_31 (by decide) ?_
    refine lv_ixor hx hb dX0_fewestOf_32 ?_
    refine lv_iand hx hb dX0_fewestOf_33 ?_
    refine k_bind hf (fun v4 hv4 hf => ?_)
    refine x_call (C := RX0) (As := [.int (x1 &&& ((ish (1 : Int32) v1) ^^^ (-1 : Int32)))]) (rest := [.int (1 : Int32)]) S hR hS hn (hrec hv4) (rl1.rf _) (hn.b (rl0.rf _)) wi_X0_fewestOf (xrc S.2 hR (ci := 0) rfl (Or.inl ⟨rfl, rfl⟩)) rfl q1516 ⟨by omega, by omega⟩ rfl hl.1 rfl (Nat.le_of_ble_eq_true rfl) dX0_fewestOf_34 (fun H locs cells slots hR hS hn => ?_)
    refine lv_iadd hx hb dX0_fewestOf_37 ?_
    refine k_bind hf (fun v5 hv5 hf => ?_)
    refine m_nmi hv5 ?_
    refine lv_istore (lv' := [(4, .int v5), (3, .int v3), (2, .int v1), (0, .ref (xo E)), (1, .int x1)]) hx hb dX0_fewestOf_38 hl (by decide) rfl (fun ls hl => ?_)
    refine lv_iload_n hx hb dX0_fewestOf_40 rfl (lv_at hl 1 rfl) ?_
    refine k_bind hf (fun v6 hv6 hf => ?_)
    refine s_call (As := [.int v3]) (rest := []) S.1.1 (met_X0_ones hv6) wi_X0_ones q637 ⟨rfl, rfl⟩ ⟨by show _ + 1 ≤ _; simp only [mRm, xRm]; omega, by simp only [mRm, xRm]; omega⟩ rfl hl.1 rfl (Nat.le_of_ble_eq_true rfl) dX0_fewestOf_41 hn.cs ?_
    refine lv_iconst (v := 1) hx hb dX0_fewestOf_44 (by decide) ?_
    refine lv_icmp_ne (tgt := 53) hx hb dX0_fewestOf_45 (by decide) (fun c_45 => ?_) (fun c_45 => ?_)
    · replace hf := o_f hf c_45
      refine lv_iload hx hb dX0_fewestOf_53 (lv_at hl 0 rfl) ?_
      refine lv_iload_n hx hb dX0_fewestOf_55 rfl (lv_at hl 1 rfl) ?_
      refine k_bind hf (fun v7 hv7 hf => ?_)
      refine s_call (As := [.int v3]) (rest := [.int v5]) S.1.1 (met_X0_ones hv7) wi_X0_ones q637 ⟨rfl, rfl⟩ ⟨by show _ + 1 ≤ _; simp only [mRm, xRm]; omega, by simp only [mRm, xRm]; omega⟩ rfl hl.1 rfl (Nat.le_of_ble_eq_true rfl) dX0_fewestOf_56 hn.cs ?_
      refine lv_aload_n hx hb dX0_fewestOf_59 rfl (lv_at hl 3 rfl) ?_
      refine lv_iload_n hx hb dX0_fewestOf_60 rfl (lv_at hl 4 rfl) ?_
      refine lv_iload_n hx hb dX0_fewestOf_61 rfl (lv_at hl 1 rfl) ?_
      refine lv_iconst (v := -1) hx hb dX0_fewestOf_62 (by decide) ?_
      refine lv_ixor hx hb dX0_fewestOf_63 ?_
      refine lv_iand hx hb dX0_fewestOf_64 ?_
      refine lv_iconst (v := 1) hx hb dX0_fewestOf_65 (by decide) ?_
      refine lv_iload_n hx hb dX0_fewestOf_66 rfl (lv_at hl 2 rfl) ?_
      refine lv_ishl hx hb dX0_fewestOf_67 ?_
      refine lv_iconst (v := -1) hx hb dX0_fewestOf_68 (by decide) ?_
      refine lv_ixor hx hb dX0_fewestOf_69 ?_
      refine lv_iand hx hb dX0_fewestOf_70 ?_
      refine k_bind hf (fun v8 hv8 hf => ?_)
      refine x_call (C := RX0) (As := [.int ((x1 &&& (v3 ^^^ (-1 : Int32))) &&& ((ish (1 : Int32) v1) ^^^ (-1 : Int32)))]) (rest := [.int v7, .int v5]) S hR hS hn (hrec hv8) (rl1.rf _) (hn.b (rl0.rf _)) wi_X0_fewestOf (xrc S.2 hR (ci := 0) rfl (Or.inl ⟨rfl, rfl⟩)) rfl q1516 ⟨by omega, by omega⟩ rfl hl.1 rfl (Nat.le_of_ble_eq_true rfl) dX0_fewestOf_71 (fun H locs cells slots hR hS hn => ?_)
      refine lv_iadd hx hb dX0_fewestOf_74 ?_
      refine s_call (As := [.int v5, .int (v7 + v8)]) (rest := []) S.1.1 (met_J6_min rfl) wi_J6_min q1524 ⟨rfl, rfl⟩ ⟨by show _ + 1 ≤ _; simp only [mRm, xRm]; omega, by simp only [mRm, xRm]; omega⟩ rfl hl.1 rfl (Nat.le_of_ble_eq_true rfl) dX0_fewestOf_75 hn.cs ?_
      obtain rfl := Option.some.inj hf
      exact x_iret S hR hS hn rfl dX0_fewestOf_78
    · replace hf := o_t hf c_45
      refine lv_iload hx hb dX0_fewestOf_48 (lv_at hl 0 rfl) ?_
      refine lv_goto (tgt := 78) hx hb dX0_fewestOf_50 (by decide) ?_
      obtain rfl := Option.some.inj hf
      exact x_iret S hR hS hn rfl dX0_fewestOf_78
  · replace hf := o_t hf c_8
    refine lv_iconst (v := 0) hx hb dX0_fewestOf_11 (by decide) ?_
    obtain rfl := Option.some.inj hf
    exact x_iret S hR hS hn rfl dX0_fewestOf_12
set_option maxHeartbeats 4000000 in
set_option maxRecDepth 100000 in
theorem met_X0_fewestOf {l : Launch} {E : xG} : ∀ {d : Nat} {x1 : Int32} {σ : xS} {res : Int32}, fX0_fewestOf d x1 σ = some res → xMet l yX0_fewestOf cX0_fewestOf 5 (Option.some Jvm.ClassFile.FieldType.int) (d + 4) (24 * (d) + 87) E [.ref (xo E), .int x1] σ (some (.int res)) σ := by
  intro d
  induction d with
  | zero => intro  x1 σ res hf; cases hf
  | succ d ih => intro  x1 σ res hf; exact wBX0_fewestOf (fun h => ih h) hf


noncomputable def fX0_persists (σ : xS) : Option (Int32 × xS) :=
  (fX1_all (0 : Fin 3) σ).bind (fun v1 => (fX0_findsHalves v1 σ).bind (fun e2 => (fX0_with (2 : Int32) e2.2).bind (fun v3 => (fX0_with (0 : Int32) e2.2).bind (fun v4 => (fX1_all (0 : Fin 3) e2.2).bind (fun v5 => (fX0_fewestOf 16 v5 e2.2).bind (fun v6 => none))))))
theorem wi_X0_persists : wInfV yX0_persists cX0_persists 4 (Option.some Jvm.ClassFile.FieldType.int) 0 := ⟨q1513, q1514, q106, q1515, (by decide +kernel), (by decide +kernel), (by decide +kernel)⟩
set_option maxHeartbeats 4000000 in
set_option maxRecDepth 100000 in
theorem r0_X0_persists {σ : xS} {res : Int32 × xS} (hf : fX0_persists σ = some res) : rl0 σ res.2 := by
  replace hf : ((fX1_all (0 : Fin 3) σ).bind (fun v1 => (fX0_findsHalves v1 σ).bind (fun e2 => (fX0_with (2 : Int32) e2.2).bind (fun v3 => (fX0_with (0 : Int32) e2.2).bind (fun v4 => (fX1_all (0 : Fin 3) e2.2).bind (fun v5 => (fX0_fewestOf 16 v5 e2.2).bind (fun v6 => none))))))) = some res := hf
  refine k_bind hf (fun v1 hv1 hf => ?_)
  refine k_bind hf (fun e2 he2 hf => ?_)
  refine rl0.tr (r0_X0_findsHalves he2) ?_
  refine k_bind hf (fun v3 hv3 hf => ?_)
  refine k_bind hf (fun v4 hv4 hf => ?_)
  refine k_bind hf (fun v5 hv5 hf => ?_)
  refine k_bind hf (fun v6 hv6 hf => ?_)
  cases hf
set_option maxHeartbeats 4000000 in
set_option maxRecDepth 100000 in
theorem met_X0_persists {l : Launch} {E : xG} {σ : xS} {res : Int32 × xS} (hf : fX0_persists σ = some res) : xMet l yX0_persists cX0_persists 4 (Option.some Jvm.ClassFile.FieldType.int) 23 536 E [.ref (xo E)] σ (some (.int res.1)) res.2 := by
  replace hf : ((fX1_all (0 : Fin 3) σ).bind (fun v1 => (fX0_findsHalves v1 σ).bind (fun e2 => (fX0_with (2 : Int32) e2.2).bind (fun v3 => (fX0_with (0 : Int32) e2.2).bind (fun v4 => (fX1_all (0 : Fin 3) e2.2).bind (fun v5 => (fX0_fewestOf 16 v5 e2.2).bind (fun v6 => none))))))) = some res := hf
  refine x_start (by decide) (Nat.le_of_ble_eq_true rfl) ?_
  intro p e s m args below meth c S hnm hR hS ls hl
  obtain ⟨hx, hb, hml, hown, hts⟩ := S.1.1
  have hl : lv_has ls 4 [(0, .ref (xo E))] := hl
  have hn : XN 0 0 (xnx σ) (xns σ) (xnx res.2) (xns res.2) σ := ⟨Nat.zero_add _, Nat.zero_add _, (r0_X0_persists (σ := σ) hf).le.1, (r0_X0_persists (σ := σ) hf).le.2⟩
  refine lv_aload_n hx hb dX0_persists_0 rfl (lv_at hl 0 rfl) ?_
  refine lv_aload_n hx hb dX0_persists_1 rfl (lv_at hl 0 rfl) ?_
  refine x_oget (k := 0) (v := .ref (xnt E (0 : Fin 3))) S hR (lk_X0_10 _ List.mem_cons_self) rfl dX0_persists_2 ?_
  refine k_bind hf (fun v1 hv1 hf => ?_)
  refine x_call (C := RX1) (As := []) (rest := [.ref (xo E)]) S hR hS hn (met_X1_all hv1) (rl1.rf _) (hn.b (rl0.rf _)) wi_X1_all (xrc S.2 hR (ci := 1) rfl (Or.inr (Or.inl ⟨_, rfl, rfl⟩))) rfl q663 ⟨Nat.le_of_ble_eq_true rfl, Nat.le_of_ble_eq_true rfl⟩ rfl hl.1 rfl (Nat.le_of_ble_eq_true rfl) dX0_persists_5 (fun H locs cells slots hR hS hn => ?_)
  refine k_bind hf (fun e2 he2 hf => ?_)
  refine x_call (C := RX0) (As := [.int v1]) (rest := []) S hR hS hn (met_X0_findsHalves he2) (r0_X0_findsHalves he2).le (hn.b (r0_X0_findsHalves he2)) wi_X0_findsHalves (xrc S.2 hR (ci := 0) rfl (Or.inl ⟨rfl, rfl⟩)) rfl q255 ⟨Nat.le_of_ble_eq_true rfl, Nat.le_of_ble_eq_true rfl⟩ rfl hl.1 rfl (Nat.le_of_ble_eq_true rfl) dX0_persists_8 (fun H locs cells slots hR hS hn => ?_)
  refine lv_pop hx hb dX0_persists_11 rfl ?_
  refine lv_aload_n hx hb dX0_persists_12 rfl (lv_at hl 0 rfl) ?_
  refine lv_iconst (v := 2) hx hb dX0_persists_13 (by decide) ?_
  refine k_bind hf (fun v3 hv3 hf => ?_)
  refine x_call (C := RX0) (As := [.int (2 : Int32)]) (rest := []) S hR hS hn (met_X0_with hv3) (rl1.rf _) (hn.b (rl0.rf _)) wi_X0_with (xrc S.2 hR (ci := 0) rfl (Or.inl ⟨rfl, rfl⟩)) rfl q298 ⟨Nat.le_of_ble_eq_true rfl, Nat.le_of_ble_eq_true rfl⟩ rfl hl.1 rfl (Nat.le_of_ble_eq_true rfl) dX0_persists_14 (fun H locs cells slots hR hS hn => ?_)
  refine lv_istore_n (lv' := [(1, .int v3), (0, .ref (xo E))]) hx hb dX0_persists_17 rfl hl (by decide) rfl (fun ls hl => ?_)
  refine lv_aload_n hx hb dX0_persists_18 rfl (lv_at hl 1 rfl) ?_
  refine lv_iconst (v := 0) hx hb dX0_persists_19 (by decide) ?_
  refine k_bind hf (fun v4 hv4 hf => ?_)
  refine x_call (C := RX0) (As := [.int (0 : Int32)]) (rest := []) S hR hS hn (met_X0_with hv4) (rl1.rf _) (hn.b (rl0.rf _)) wi_X0_with (xrc S.2 hR (ci := 0) rfl (Or.inl ⟨rfl, rfl⟩)) rfl q298 ⟨Nat.le_of_ble_eq_true rfl, Nat.le_of_ble_eq_true rfl⟩ rfl hl.1 rfl (Nat.le_of_ble_eq_true rfl) dX0_persists_20 (fun H locs cells slots hR hS hn => ?_)
  refine lv_istore_n (lv' := [(2, .int v4), (1, .int v3), (0, .ref (xo E))]) hx hb dX0_persists_23 rfl hl (by decide) rfl (fun ls hl => ?_)
  refine lv_aload_n hx hb dX0_persists_24 rfl (lv_at hl 2 rfl) ?_
  refine lv_aload_n hx hb dX0_persists_25 rfl (lv_at hl 2 rfl) ?_
  refine x_oget (k := 0) (v := .ref (xnt E (0 : Fin 3))) S hR (lk_X0_10 _ List.mem_cons_self) rfl dX0_persists_26 ?_
  refine k_bind hf (fun v5 hv5 hf => ?_)
  refine x_call (C := RX1) (As := []) (rest := [.ref (xo E)]) S hR hS hn (met_X1_all hv5) (rl1.rf _) (hn.b (rl0.rf _)) wi_X1_all (xrc S.2 hR (ci := 1) rfl (Or.inr (Or.inl ⟨_, rfl, rfl⟩))) rfl q663 ⟨Nat.le_of_ble_eq_true rfl, Nat.le_of_ble_eq_true rfl⟩ rfl hl.1 rfl (Nat.le_of_ble_eq_true rfl) dX0_persists_29 (fun H locs cells slots hR hS hn => ?_)
  refine k_bind hf (fun v6 hv6 hf => ?_)
  refine x_call (C := RX0) (As := [.int v5]) (rest := []) S hR hS hn (met_X0_fewestOf hv6) (rl1.rf _) (hn.b (rl0.rf _)) wi_X0_fewestOf (xrc S.2 hR (ci := 0) rfl (Or.inl ⟨rfl, rfl⟩)) rfl q1516 ⟨Nat.le_of_ble_eq_true rfl, Nat.le_of_ble_eq_true rfl⟩ rfl hl.1 rfl (Nat.le_of_ble_eq_true rfl) dX0_persists_32 (fun H locs cells slots hR hS hn => ?_)
  refine lv_istore_n (lv' := [(3, .int v6), (2, .int v4), (1, .int v3), (0, .ref (xo E))]) hx hb dX0_persists_35 rfl hl (by decide) rfl (fun ls hl => ?_)
  refine lv_aload_n hx hb dX0_persists_36 rfl (lv_at hl 3 rfl) ?_
  refine lv_iload_n hx hb dX0_persists_37 rfl (lv_at hl 0 rfl) ?_
  refine lv_iload_n hx hb dX0_persists_38 rfl (lv_at hl 2 rfl) ?_
  refine lv_iload_n hx hb dX0_persists_39 rfl (lv_at hl 1 rfl) ?_
  cases hf


noncomputable def fX0_lambda_persists_3 (x0 : Int32) (x1 : Int32) (x2 : Int32) (x3 : Int32) : Option (Int32) :=
  (fX0_ones x3).bind (fun v1 => if v1 = x0 then if (x1 &&& (x3 ^^^ (-1 : Int32))) = (0 : Int32) then if (x2 &&& x3) = (0 : Int32) then some (1 : Int32) else some (0 : Int32) else some (0 : Int32) else some (0 : Int32))
theorem wi_X0_lambda_persists_3 : wInfS yX0_lambda_persists_3 cX0_lambda_persists_3 4 (Option.some Jvm.ClassFile.FieldType.boolean) 4 := ⟨q1525, q106, q1526, (by decide +kernel), (by decide +kernel), (by decide +kernel)⟩
set_option maxHeartbeats 4000000 in
set_option maxRecDepth 100000 in
theorem met_X0_lambda_persists_3 {l : Launch} {x0 : Int32} {x1 : Int32} {x2 : Int32} {x3 : Int32} {res : Int32} (hf : fX0_lambda_persists_3 x0 x1 x2 x3 = some res) : sMet l yX0_lambda_persists_3 cX0_lambda_persists_3 4 (Option.some Jvm.ClassFile.FieldType.boolean) (mRm 2 40) [.int x0, .int x1, .int x2, .int x3] (some (.int res)) := by
  replace hf : ((fX0_ones x3).bind (fun v1 => if v1 = x0 then if (x1 &&& (x3 ^^^ (-1 : Int32))) = (0 : Int32) then if (x2 &&& x3) = (0 : Int32) then some (1 : Int32) else some (0 : Int32) else some (0 : Int32) else some (0 : Int32))) = some res := hf
  refine s_start (by decide) (Nat.le_of_ble_eq_true rfl) ?_
  intro p e s m args below meth c S ls hl
  obtain ⟨hx, hb, hml, hown, hts⟩ := S.1
  have hl : lv_has ls 4 [(0, .int x0), (1, .int x1), (2, .int x2), (3, .int x3)] := hl
  refine lv_iload_n hx hb dX0_lambda_persists_3_0 rfl (lv_at hl 3 rfl) ?_
  refine k_bind hf (fun v1 hv1 hf => ?_)
  refine s_call (As := [.int x3]) (rest := []) S.1 (met_X0_ones hv1) wi_X0_ones q637 ⟨rfl, rfl⟩ ⟨Nat.le_of_ble_eq_true rfl, Nat.le_of_ble_eq_true rfl⟩ rfl hl.1 rfl (Nat.le_of_ble_eq_true rfl) dX0_lambda_persists_3_1 ⟨Nat.zero_le _, Nat.zero_le _⟩ ?_
  refine lv_iload_n hx hb dX0_lambda_persists_3_4 rfl (lv_at hl 0 rfl) ?_
  refine lv_icmp_ne (tgt := 26) hx hb dX0_lambda_persists_3_5 (by decide) (fun c_5 => ?_) (fun c_5 => ?_)
  · replace hf := o_f hf c_5
    refine lv_iconst (v := 0) hx hb dX0_lambda_persists_3_26 (by decide) ?_
    obtain rfl := Option.some.inj hf
    exact s_iret S rfl dX0_lambda_persists_3_27
  · replace hf := o_t hf c_5
    refine lv_iload_n hx hb dX0_lambda_persists_3_8 rfl (lv_at hl 1 rfl) ?_
    refine lv_iload_n hx hb dX0_lambda_persists_3_9 rfl (lv_at hl 3 rfl) ?_
    refine lv_iconst (v := -1) hx hb dX0_lambda_persists_3_10 (by decide) ?_
    refine lv_ixor hx hb dX0_lambda_persists_3_11 ?_
    refine lv_iand hx hb dX0_lambda_persists_3_12 ?_
    refine lv_if_ne (tgt := 26) hx hb dX0_lambda_persists_3_13 (by decide) (fun c_13 => ?_) (fun c_13 => ?_)
    · replace hf := o_f hf c_13
      refine lv_iconst (v := 0) hx hb dX0_lambda_persists_3_26 (by decide) ?_
      obtain rfl := Option.some.inj hf
      exact s_iret S rfl dX0_lambda_persists_3_27
    · replace hf := o_t hf c_13
      refine lv_iload_n hx hb dX0_lambda_persists_3_16 rfl (lv_at hl 2 rfl) ?_
      refine lv_iload_n hx hb dX0_lambda_persists_3_17 rfl (lv_at hl 3 rfl) ?_
      refine lv_iand hx hb dX0_lambda_persists_3_18 ?_
      refine lv_if_ne (tgt := 26) hx hb dX0_lambda_persists_3_19 (by decide) (fun c_19 => ?_) (fun c_19 => ?_)
      · replace hf := o_f hf c_19
        refine lv_iconst (v := 0) hx hb dX0_lambda_persists_3_26 (by decide) ?_
        obtain rfl := Option.some.inj hf
        exact s_iret S rfl dX0_lambda_persists_3_27
      · replace hf := o_t hf c_19
        refine lv_iconst (v := 1) hx hb dX0_lambda_persists_3_22 (by decide) ?_
        refine lv_goto (tgt := 27) hx hb dX0_lambda_persists_3_23 (by decide) ?_
        obtain rfl := Option.some.inj hf
        exact s_iret S rfl dX0_lambda_persists_3_27


noncomputable def fX0_areCrown (x1 : Int32) (σ : xS) : Option (Int32 × xS) :=
  (fX1_around (0 : Fin 3) x1 σ).bind (fun v1 => if x1 = (0 : Int32) then some ((0 : Int32), σ) else if (v1 &&& x1) = (0 : Int32) then (fX0_ones v1).bind (fun v2 => (fX0_ones x1).bind (fun v3 => if v3 < v2 then some ((0 : Int32), σ) else (fX0_canPair v1 x1 σ).bind (fun e4 => if e4.1 = (0 : Int32) then some ((0 : Int32), e4.2) else some ((1 : Int32), e4.2)))) else some ((0 : Int32), σ))
theorem wi_X0_areCrown : wInfV yX0_areCrown cX0_areCrown 3 (Option.some Jvm.ClassFile.FieldType.boolean) 1 := ⟨q1533, qs24, q106, q1534, (by decide +kernel), (by decide +kernel), (by decide +kernel)⟩
set_option maxHeartbeats 4000000 in
set_option maxRecDepth 100000 in
theorem r0_X0_areCrown {x1 : Int32} {σ : xS} {res : Int32 × xS} (hf : fX0_areCrown x1 σ = some res) : rl0 σ res.2 := by
  replace hf : ((fX1_around (0 : Fin 3) x1 σ).bind (fun v1 => if x1 = (0 : Int32) then some ((0 : Int32), σ) else if (v1 &&& x1) = (0 : Int32) then (fX0_ones v1).bind (fun v2 => (fX0_ones x1).bind (fun v3 => if v3 < v2 then some ((0 : Int32), σ) else (fX0_canPair v1 x1 σ).bind (fun e4 => if e4.1 = (0 : Int32) then some ((0 : Int32), e4.2) else some ((1 : Int32), e4.2)))) else some ((0 : Int32), σ))) = some res := hf
  refine k_bind hf (fun v1 hv1 hf => ?_)
  by_cases c0 : x1 = (0 : Int32)
  · replace hf := o_t hf c0
    obtain rfl := Option.some.inj hf
    exact rl0.rf _
  · replace hf := o_f hf c0
    by_cases c0 : (v1 &&& x1) = (0 : Int32)
    · replace hf := o_t hf c0
      refine k_bind hf (fun v2 hv2 hf => ?_)
      refine k_bind hf (fun v3 hv3 hf => ?_)
      by_cases c0 : v3 < v2
      · replace hf := o_t hf c0
        obtain rfl := Option.some.inj hf
        exact rl0.rf _
      · replace hf := o_f hf c0
        refine k_bind hf (fun e4 he4 hf => ?_)
        refine rl0.tr (r0_X0_canPair he4) ?_
        by_cases c0 : e4.1 = (0 : Int32)
        · replace hf := o_t hf c0
          obtain rfl := Option.some.inj hf
          exact rl0.rf _
        · replace hf := o_f hf c0
          obtain rfl := Option.some.inj hf
          exact rl0.rf _
    · replace hf := o_f hf c0
      obtain rfl := Option.some.inj hf
      exact rl0.rf _
set_option maxHeartbeats 4000000 in
set_option maxRecDepth 100000 in
theorem met_X0_areCrown {l : Launch} {E : xG} {x1 : Int32} {σ : xS} {res : Int32 × xS} (hf : fX0_areCrown x1 σ = some res) : xMet l yX0_areCrown cX0_areCrown 3 (Option.some Jvm.ClassFile.FieldType.boolean) 21 478 E [.ref (xo E), .int x1] σ (some (.int res.1)) res.2 := by
  replace hf : ((fX1_around (0 : Fin 3) x1 σ).bind (fun v1 => if x1 = (0 : Int32) then some ((0 : Int32), σ) else if (v1 &&& x1) = (0 : Int32) then (fX0_ones v1).bind (fun v2 => (fX0_ones x1).bind (fun v3 => if v3 < v2 then some ((0 : Int32), σ) else (fX0_canPair v1 x1 σ).bind (fun e4 => if e4.1 = (0 : Int32) then some ((0 : Int32), e4.2) else some ((1 : Int32), e4.2)))) else some ((0 : Int32), σ))) = some res := hf
  refine x_start (by decide) (Nat.le_of_ble_eq_true rfl) ?_
  intro p e s m args below meth c S hnm hR hS ls hl
  obtain ⟨hx, hb, hml, hown, hts⟩ := S.1.1
  have hl : lv_has ls 3 [(0, .ref (xo E)), (1, .int x1)] := hl
  have hn : XN 0 0 (xnx σ) (xns σ) (xnx res.2) (xns res.2) σ := ⟨Nat.zero_add _, Nat.zero_add _, (r0_X0_areCrown (x1 := x1) (σ := σ) hf).le.1, (r0_X0_areCrown (x1 := x1) (σ := σ) hf).le.2⟩
  refine lv_aload_n hx hb dX0_areCrown_0 rfl (lv_at hl 0 rfl) ?_
  refine x_oget (k := 0) (v := .ref (xnt E (0 : Fin 3))) S hR (lk_X0_10 _ List.mem_cons_self) rfl dX0_areCrown_1 ?_
  refine lv_iload_n hx hb dX0_areCrown_4 rfl (lv_at hl 1 rfl) ?_
  refine k_bind hf (fun v1 hv1 hf => ?_)
  refine x_call (C := RX1) (As := [.int x1]) (rest := []) S hR hS hn (met_X1_around hv1) (rl1.rf _) (hn.b (rl0.rf _)) wi_X1_around (xrc S.2 hR (ci := 1) rfl (Or.inr (Or.inl ⟨_, rfl, rfl⟩))) rfl q1535 ⟨Nat.le_of_ble_eq_true rfl, Nat.le_of_ble_eq_true rfl⟩ rfl hl.1 rfl (Nat.le_of_ble_eq_true rfl) dX0_areCrown_5 (fun H locs cells slots hR hS hn => ?_)
  refine lv_istore_n (lv' := [(2, .int v1), (0, .ref (xo E)), (1, .int x1)]) hx hb dX0_areCrown_8 rfl hl (by decide) rfl (fun ls hl => ?_)
  refine lv_iload_n hx hb dX0_areCrown_9 rfl (lv_at hl 2 rfl) ?_
  refine lv_if_eq (tgt := 43) hx hb dX0_areCrown_10 (by decide) (fun c_10 => ?_) (fun c_10 => ?_)
  · replace hf := o_t hf c_10
    refine lv_iconst (v := 0) hx hb dX0_areCrown_43 (by decide) ?_
    obtain rfl := Option.some.inj hf
    exact x_iret S hR hS hn rfl dX0_areCrown_44
  · replace hf := o_f hf c_10
    refine lv_iload_n hx hb dX0_areCrown_13 rfl (lv_at hl 0 rfl) ?_
    refine lv_iload_n hx hb dX0_areCrown_14 rfl (lv_at hl 2 rfl) ?_
    refine lv_iand hx hb dX0_areCrown_15 ?_
    refine lv_if_ne (tgt := 43) hx hb dX0_areCrown_16 (by decide) (fun c_16 => ?_) (fun c_16 => ?_)
    · replace hf := o_f hf c_16
      refine lv_iconst (v := 0) hx hb dX0_areCrown_43 (by decide) ?_
      obtain rfl := Option.some.inj hf
      exact x_iret S hR hS hn rfl dX0_areCrown_44
    · replace hf := o_t hf c_16
      refine lv_iload_n hx hb dX0_areCrown_19 rfl (lv_at hl 0 rfl) ?_
      refine k_bind hf (fun v2 hv2 hf => ?_)
      refine s_call (As := [.int v1]) (rest := []) S.1.1 (met_X0_ones hv2) wi_X0_ones q637 ⟨rfl, rfl⟩ ⟨Nat.le_of_ble_eq_true rfl, Nat.le_of_ble_eq_true rfl⟩ rfl hl.1 rfl (Nat.le_of_ble_eq_true rfl) dX0_areCrown_20 hn.cs ?_
      refine lv_iload_n hx hb dX0_areCrown_23 rfl (lv_at hl 2 rfl) ?_
      refine k_bind hf (fun v3 hv3 hf => ?_)
      refine s_call (As := [.int x1]) (rest := [.int v2]) S.1.1 (met_X0_ones hv3) wi_X0_ones q637 ⟨rfl, rfl⟩ ⟨Nat.le_of_ble_eq_true rfl, Nat.le_of_ble_eq_true rfl⟩ rfl hl.1 rfl (Nat.le_of_ble_eq_true rfl) dX0_areCrown_24 hn.cs ?_
      refine lv_icmp_gt (tgt := 43) hx hb dX0_areCrown_27 (by decide) (fun c_27 => ?_) (fun c_27 => ?_)
      · replace hf := o_t hf c_27
        refine lv_iconst (v := 0) hx hb dX0_areCrown_43 (by decide) ?_
        obtain rfl := Option.some.inj hf
        exact x_iret S hR hS hn rfl dX0_areCrown_44
      · replace hf := o_f hf c_27
        refine lv_aload_n hx hb dX0_areCrown_30 rfl (lv_at hl 1 rfl) ?_
        refine lv_iload_n hx hb dX0_areCrown_31 rfl (lv_at hl 0 rfl) ?_
        refine lv_iload_n hx hb dX0_areCrown_32 rfl (lv_at hl 2 rfl) ?_
        refine k_bind hf (fun e4 he4 hf => ?_)
        refine x_call (C := RX0) (As := [.int v1, .int x1]) (rest := []) S hR hS hn (met_X0_canPair he4) (r0_X0_canPair he4).le (hn.b (r0_X0_canPair he4)) wi_X0_canPair (xrc S.2 hR (ci := 0) rfl (Or.inl ⟨rfl, rfl⟩)) rfl q1508 ⟨Nat.le_of_ble_eq_true rfl, Nat.le_of_ble_eq_true rfl⟩ rfl hl.1 rfl (Nat.le_of_ble_eq_true rfl) dX0_areCrown_33 (fun H locs cells slots hR hS hn => ?_)
        refine lv_if_eq (tgt := 43) hx hb dX0_areCrown_36 (by decide) (fun c_36 => ?_) (fun c_36 => ?_)
        · replace hf := o_t hf c_36
          refine lv_iconst (v := 0) hx hb dX0_areCrown_43 (by decide) ?_
          obtain rfl := Option.some.inj hf
          exact x_iret S hR hS hn rfl dX0_areCrown_44
        · replace hf := o_f hf c_36
          refine lv_iconst (v := 1) hx hb dX0_areCrown_39 (by decide) ?_
          refine lv_goto (tgt := 44) hx hb dX0_areCrown_40 (by decide) ?_
          obtain rfl := Option.some.inj hf
          exact x_iret S hR hS hn rfl dX0_areCrown_44


noncomputable def fX0_isCrown (x1 : Int32) (σ : xS) : Option (Int32 × xS) :=
  (fX0_areSet x1 σ).bind (fun v1 => if v1 = (0 : Int32) then some ((-2 : Int32), σ) else (fX0_areCrown x1 σ).bind (fun e2 => if e2.1 = (0 : Int32) then some ((0 : Int32), e2.2) else some ((1 : Int32), e2.2)))
theorem wi_X0_isCrown : wInfV yX0_isCrown cX0_isCrown 2 (Option.some Jvm.ClassFile.FieldType.int) 1 := ⟨q1528, q1529, q106, q1530, (by decide +kernel), (by decide +kernel), (by decide +kernel)⟩
set_option maxHeartbeats 4000000 in
set_option maxRecDepth 100000 in
theorem r0_X0_isCrown {x1 : Int32} {σ : xS} {res : Int32 × xS} (hf : fX0_isCrown x1 σ = some res) : rl0 σ res.2 := by
  replace hf : ((fX0_areSet x1 σ).bind (fun v1 => if v1 = (0 : Int32) then some ((-2 : Int32), σ) else (fX0_areCrown x1 σ).bind (fun e2 => if e2.1 = (0 : Int32) then some ((0 : Int32), e2.2) else some ((1 : Int32), e2.2)))) = some res := hf
  refine k_bind hf (fun v1 hv1 hf => ?_)
  by_cases c0 : v1 = (0 : Int32)
  · replace hf := o_t hf c0
    obtain rfl := Option.some.inj hf
    exact rl0.rf _
  · replace hf := o_f hf c0
    refine k_bind hf (fun e2 he2 hf => ?_)
    refine rl0.tr (r0_X0_areCrown he2) ?_
    by_cases c0 : e2.1 = (0 : Int32)
    · replace hf := o_t hf c0
      obtain rfl := Option.some.inj hf
      exact rl0.rf _
    · replace hf := o_f hf c0
      obtain rfl := Option.some.inj hf
      exact rl0.rf _
set_option maxHeartbeats 4000000 in
set_option maxRecDepth 100000 in
theorem met_X0_isCrown {l : Launch} {E : xG} {x1 : Int32} {σ : xS} {res : Int32 × xS} (hf : fX0_isCrown x1 σ = some res) : xMet l yX0_isCrown cX0_isCrown 2 (Option.some Jvm.ClassFile.FieldType.int) 22 500 E [.ref (xo E), .int x1] σ (some (.int res.1)) res.2 := by
  replace hf : ((fX0_areSet x1 σ).bind (fun v1 => if v1 = (0 : Int32) then some ((-2 : Int32), σ) else (fX0_areCrown x1 σ).bind (fun e2 => if e2.1 = (0 : Int32) then some ((0 : Int32), e2.2) else some ((1 : Int32), e2.2)))) = some res := hf
  refine x_start (by decide) (Nat.le_of_ble_eq_true rfl) ?_
  intro p e s m args below meth c S hnm hR hS ls hl
  obtain ⟨hx, hb, hml, hown, hts⟩ := S.1.1
  have hl : lv_has ls 2 [(0, .ref (xo E)), (1, .int x1)] := hl
  have hn : XN 0 0 (xnx σ) (xns σ) (xnx res.2) (xns res.2) σ := ⟨Nat.zero_add _, Nat.zero_add _, (r0_X0_isCrown (x1 := x1) (σ := σ) hf).le.1, (r0_X0_isCrown (x1 := x1) (σ := σ) hf).le.2⟩
  refine lv_aload_n hx hb dX0_isCrown_0 rfl (lv_at hl 0 rfl) ?_
  refine lv_iload_n hx hb dX0_isCrown_1 rfl (lv_at hl 1 rfl) ?_
  refine k_bind hf (fun v1 hv1 hf => ?_)
  refine x_call (C := RX0) (As := [.int x1]) (rest := []) S hR hS hn (met_X0_areSet hv1) (rl1.rf _) (hn.b (rl0.rf _)) wi_X0_areSet (xrc S.2 hR (ci := 0) rfl (Or.inl ⟨rfl, rfl⟩)) rfl q659 ⟨Nat.le_of_ble_eq_true rfl, Nat.le_of_ble_eq_true rfl⟩ rfl hl.1 rfl (Nat.le_of_ble_eq_true rfl) dX0_isCrown_2 (fun H locs cells slots hR hS hn => ?_)
  refine lv_if_ne (tgt := 13) hx hb dX0_isCrown_5 (by decide) (fun c_5 => ?_) (fun c_5 => ?_)
  · replace hf := o_f hf c_5
    refine lv_aload_n hx hb dX0_isCrown_13 rfl (lv_at hl 0 rfl) ?_
    refine lv_iload_n hx hb dX0_isCrown_14 rfl (lv_at hl 1 rfl) ?_
    refine k_bind hf (fun e2 he2 hf => ?_)
    refine x_call (C := RX0) (As := [.int x1]) (rest := []) S hR hS hn (met_X0_areCrown he2) (r0_X0_areCrown he2).le (hn.b (r0_X0_areCrown he2)) wi_X0_areCrown (xrc S.2 hR (ci := 0) rfl (Or.inl ⟨rfl, rfl⟩)) rfl q1531 ⟨Nat.le_of_ble_eq_true rfl, Nat.le_of_ble_eq_true rfl⟩ rfl hl.1 rfl (Nat.le_of_ble_eq_true rfl) dX0_isCrown_15 (fun H locs cells slots hR hS hn => ?_)
    refine lv_if_eq (tgt := 25) hx hb dX0_isCrown_18 (by decide) (fun c_18 => ?_) (fun c_18 => ?_)
    · replace hf := o_t hf c_18
      refine lv_iconst (v := 0) hx hb dX0_isCrown_25 (by decide) ?_
      obtain rfl := Option.some.inj hf
      exact x_iret S hR hS hn rfl dX0_isCrown_26
    · replace hf := o_f hf c_18
      refine lv_iconst (v := 1) hx hb dX0_isCrown_21 (by decide) ?_
      refine lv_goto (tgt := 26) hx hb dX0_isCrown_22 (by decide) ?_
      obtain rfl := Option.some.inj hf
      exact x_iret S hR hS hn rfl dX0_isCrown_26
  · replace hf := o_t hf c_5
    refine lv_bipush (v := -2) hx hb dX0_isCrown_8 (by decide) ?_
    refine lv_goto (tgt := 26) hx hb dX0_isCrown_10 (by decide) ?_
    obtain rfl := Option.some.inj hf
    exact x_iret S hR hS hn rfl dX0_isCrown_26


noncomputable def LX0_crowns_19 (y1 : Int32) (q : Int32 × Int32 × Int32 × xS) : Option ((Int32 × Int32 × Int32 × xS) ⊕ (Int32 × Int32 × xS)) :=
  (fX1_all (0 : Fin 3) q.2.2.2).bind (fun v1 => if v1 < q.2.2.1 then some (Sum.inr (q.1, q.2.1, q.2.2.2)) else (fX0_areCrown q.2.2.1 q.2.2.2).bind (fun e2 => if e2.1 = (0 : Int32) then some (Sum.inl (q.1, q.2.1, q.2.2.1 + (1 : Int32), e2.2)) else (fX0_ones q.2.2.1).bind (fun v3 => (fX0_ones q.2.1).bind (fun v4 => if v3 ≤ v4 then some (Sum.inl (q.1 + (1 : Int32), q.2.1, q.2.2.1 + (1 : Int32), e2.2)) else some (Sum.inl (q.1 + (1 : Int32), q.2.2.1, q.2.2.1 + (1 : Int32), e2.2))))))
noncomputable def fX0_crowns (x1 : Int32) (σ : xS) : Option (Int32 × xS) :=
  if (fX0_in x1 (0 : Int32) (2 : Int32)) = (0 : Int32) then some ((-2 : Int32), σ) else (lpw (LX0_crowns_19 x1) ((0 : Int32), (0 : Int32), (1 : Int32), σ)).bind (fun b5 => if x1 = (0 : Int32) then some (b5.1, b5.2.2) else if b5.1 = (0 : Int32) then some ((-1 : Int32), b5.2.2) else if x1 = (1 : Int32) then some (b5.2.1, b5.2.2) else (fX1_around (0 : Fin 3) b5.2.1 b5.2.2).bind (fun v6 => some (v6, b5.2.2)))
theorem wi_X0_crowns : wInfV yX0_crowns cX0_crowns 5 (Option.some Jvm.ClassFile.FieldType.int) 1 := ⟨q1537, q1538, q106, q1539, (by decide +kernel), (by decide +kernel), (by decide +kernel)⟩
set_option maxHeartbeats 4000000 in
set_option maxRecDepth 100000 in
theorem rsLX0_crowns_19 {y1 : Int32} {q : Int32 × Int32 × Int32 × xS} {res : (Int32 × Int32 × Int32 × xS) ⊕ (Int32 × Int32 × xS)} (hf : LX0_crowns_19 y1 q = some res) : rl0 q.2.2.2 (Sum.elim (fun q => q.2.2.2) (fun b => b.2.2) res) := by
  replace hf : ((fX1_all (0 : Fin 3) q.2.2.2).bind (fun v1 => if v1 < q.2.2.1 then some (Sum.inr (q.1, q.2.1, q.2.2.2)) else (fX0_areCrown q.2.2.1 q.2.2.2).bind (fun e2 => if e2.1 = (0 : Int32) then some (Sum.inl (q.1, q.2.1, q.2.2.1 + (1 : Int32), e2.2)) else (fX0_ones q.2.2.1).bind (fun v3 => (fX0_ones q.2.1).bind (fun v4 => if v3 ≤ v4 then some (Sum.inl (q.1 + (1 : Int32), q.2.1, q.2.2.1 + (1 : Int32), e2.2)) else some (Sum.inl (q.1 + (1 : Int32), q.2.2.1, q.2.2.1 + (1 : Int32), e2.2))))))) = some res := hf
  refine k_bind hf (fun v1 hv1 hf => ?_)
  by_cases c0 : v1 < q.2.2.1
  · replace hf := o_t hf c0
    obtain rfl := Option.some.inj hf
    exact rl0.rf _
  · replace hf := o_f hf c0
    refine k_bind hf (fun e2 he2 hf => ?_)
    refine rl0.tr (r0_X0_areCrown he2) ?_
    by_cases c0 : e2.1 = (0 : Int32)
    · replace hf := o_t hf c0
      obtain rfl := Option.some.inj hf
      exact rl0.rf _
    · replace hf := o_f hf c0
      refine k_bind hf (fun v3 hv3 hf => ?_)
      refine k_bind hf (fun v4 hv4 hf => ?_)
      by_cases c0 : v3 ≤ v4
      · replace hf := o_t hf c0
        obtain rfl := Option.some.inj hf
        exact rl0.rf _
      · replace hf := o_f hf c0
        obtain rfl := Option.some.inj hf
        exact rl0.rf _
set_option maxHeartbeats 4000000 in
set_option maxRecDepth 100000 in
theorem rLX0_crowns_19 {y1 : Int32} {q : Int32 × Int32 × Int32 × xS} {b : Int32 × Int32 × xS} (h : lpw (LX0_crowns_19 y1) q = some b) : rl0 q.2.2.2 ((fun b => b.2.2) b) :=
  lpw_rel _ (fun q => q.2.2.2) (fun b => b.2.2) rl0 rl0.tr (fun _ _ hf => rsLX0_crowns_19 hf) h
set_option maxHeartbeats 4000000 in
set_option maxRecDepth 100000 in
theorem r0_X0_crowns {x1 : Int32} {σ : xS} {res : Int32 × xS} (hf : fX0_crowns x1 σ = some res) : rl0 σ res.2 := by
  replace hf : (if (fX0_in x1 (0 : Int32) (2 : Int32)) = (0 : Int32) then some ((-2 : Int32), σ) else (lpw (LX0_crowns_19 x1) ((0 : Int32), (0 : Int32), (1 : Int32), σ)).bind (fun b5 => if x1 = (0 : Int32) then some (b5.1, b5.2.2) else if b5.1 = (0 : Int32) then some ((-1 : Int32), b5.2.2) else if x1 = (1 : Int32) then some (b5.2.1, b5.2.2) else (fX1_around (0 : Fin 3) b5.2.1 b5.2.2).bind (fun v6 => some (v6, b5.2.2)))) = some res := hf
  by_cases c0 : (fX0_in x1 (0 : Int32) (2 : Int32)) = (0 : Int32)
  · replace hf := o_t hf c0
    obtain rfl := Option.some.inj hf
    exact rl0.rf _
  · replace hf := o_f hf c0
    refine k_bind hf (fun b5 hb5 hf => ?_)
    refine rl0.tr (rLX0_crowns_19 hb5) ?_
    by_cases c0 : x1 = (0 : Int32)
    · replace hf := o_t hf c0
      obtain rfl := Option.some.inj hf
      exact rl0.rf _
    · replace hf := o_f hf c0
      by_cases c0 : b5.1 = (0 : Int32)
      · replace hf := o_t hf c0
        obtain rfl := Option.some.inj hf
        exact rl0.rf _
      · replace hf := o_f hf c0
        by_cases c0 : x1 = (1 : Int32)
        · replace hf := o_t hf c0
          obtain rfl := Option.some.inj hf
          exact rl0.rf _
        · replace hf := o_f hf c0
          refine k_bind hf (fun v6 hv6 hf => ?_)
          obtain rfl := Option.some.inj hf
          exact rl0.rf _
set_option maxHeartbeats 4000000 in
set_option maxRecDepth 100000 in
theorem wbLX0_crowns_19 {l : Launch} {E : xG} {p : Program} {e : Env} {s : State} {m : MethodId} {args : Array Value} {below : List Frame} {meth : Method} {c : Code} {Q : State → Prop} {n0 s0 nf sf : Nat} {y1 : Int32} {q : Int32 × Int32 × Int32 × xS} {res : (Int32 × Int32 × Int32 × xS) ⊕ (Int32 × Int32 × xS)} (S : xSt E RX0 p m c cX0_crowns 5 s args meth (Option.some Jvm.ClassFile.FieldType.int)) (hf : LX0_crowns_19 y1 q = some res) (hK : ∀ q, res = Sum.inl q → (∀ (H : Heap) (locs : List Loc) (cells slots : Nat) (ls : Array Slot), xR E q.2.2.2 H → va_S (xAA E) s.heap H locs → XN cells slots n0 s0 nf sf q.2.2.2 → lv_has ls 5 [(0, .ref (xo E)), (1, .int y1), (2, .int q.1), (3, .int q.2.1), (4, .int q.2.2.1)] → W p l e (xRm 22 500 (nf - n0) (sf - s0)) s m args below meth c H locs cells slots Q (F0 m 19 ls []))) (hE71 : ∀ b, res = Sum.inr b → (∀ (H : Heap) (locs : List Loc) (cells slots : Nat) (ls : Array Slot), xR E b.2.2 H → va_S (xAA E) s.heap H locs → XN cells slots n0 s0 nf sf b.2.2 → lv_has ls 5 [(0, .ref (xo E)), (1, .int y1), (2, .int b.1), (3, .int b.2.1)] → W p l e (xRm 22 500 (nf - n0) (sf - s0)) s m args below meth c H locs cells slots Q (F0 m 71 ls []))) : (∀ (H : Heap) (locs : List Loc) (cells slots : Nat) (ls : Array Slot), xR E q.2.2.2 H → va_S (xAA E) s.heap H locs → XN cells slots n0 s0 nf sf q.2.2.2 → lv_has ls 5 [(0, .ref (xo E)), (1, .int y1), (2, .int q.1), (3, .int q.2.1), (4, .int q.2.2.1)] → W p l e (xRm 22 500 (nf - n0) (sf - s0)) s m args below meth c H locs cells slots Q (F0 m 19 ls [])) := by
  replace hf : ((fX1_all (0 : Fin 3) q.2.2.2).bind (fun v1 => if v1 < q.2.2.1 then some (Sum.inr (q.1, q.2.1, q.2.2.2)) else (fX0_areCrown q.2.2.1 q.2.2.2).bind (fun e2 => if e2.1 = (0 : Int32) then some (Sum.inl (q.1, q.2.1, q.2.2.1 + (1 : Int32), e2.2)) else (fX0_ones q.2.2.1).bind (fun v3 => (fX0_ones q.2.1).bind (fun v4 => if v3 ≤ v4 then some (Sum.inl (q.1 + (1 : Int32), q.2.1, q.2.2.1 + (1 : Int32), e2.2)) else some (Sum.inl (q.1 + (1 : Int32), q.2.2.1, q.2.2.1 + (1 : Int32), e2.2))))))) = some res := hf
  obtain ⟨hx, hb, hml, hown, hts⟩ := S.1.1
  intro H locs cells slots ls hR hS hn hl
  refine lv_iload hx hb dX0_crowns_19 (lv_at hl 4 rfl) ?_
  refine lv_aload_n hx hb dX0_crowns_21 rfl (lv_at hl 0 rfl) ?_
  refine x_oget (k := 0) (v := .ref (xnt E (0 : Fin 3))) S hR (lk_X0_10 _ List.mem_cons_self) rfl dX0_crowns_22 ?_
  refine k_bind hf (fun v1 hv1 hf => ?_)
  refine x_call (C := RX1) (As := []) (rest := [.int q.2.2.1]) S hR hS hn (met_X1_all hv1) (rl1.rf _) (hn.b (rl0.rf _)) wi_X1_all (xrc S.2 hR (ci := 1) rfl (Or.inr (Or.inl ⟨_, rfl, rfl⟩))) rfl q663 ⟨Nat.le_of_ble_eq_true rfl, Nat.le_of_ble_eq_true rfl⟩ rfl hl.1 rfl (Nat.le_of_ble_eq_true rfl) dX0_crowns_25 (fun H locs cells slots hR hS hn => ?_)
  refine lv_icmp_gt (tgt := 71) hx hb dX0_crowns_28 (by decide) (fun c_28 => ?_) (fun c_28 => ?_)
  · replace hf := o_t hf c_28
    exact hE71 _ (Option.some.inj hf).symm _ _ _ _ _ hR hS hn (lv_sub (l' := [(0, .ref (xo E)), (1, .int y1), (2, .int q.1), (3, .int q.2.1)]) hl [0, 1, 2, 3] rfl)
  · replace hf := o_f hf c_28
    refine lv_aload_n hx hb dX0_crowns_31 rfl (lv_at hl 0 rfl) ?_
    refine lv_iload hx hb dX0_crowns_32 (lv_at hl 4 rfl) ?_
    refine k_bind hf (fun e2 he2 hf => ?_)
    refine x_call (C := RX0) (As := [.int q.2.2.1]) (rest := []) S hR hS hn (met_X0_areCrown he2) (r0_X0_areCrown he2).le (hn.b (r0_X0_areCrown he2)) wi_X0_areCrown (xrc S.2 hR (ci := 0) rfl (Or.inl ⟨rfl, rfl⟩)) rfl q1531 ⟨Nat.le_of_ble_eq_true rfl, Nat.le_of_ble_eq_true rfl⟩ rfl hl.1 rfl (Nat.le_of_ble_eq_true rfl) dX0_crowns_34 (fun H locs cells slots hR hS hn => ?_)
    refine lv_if_ne (tgt := 43) hx hb dX0_crowns_37 (by decide) (fun c_37 => ?_) (fun c_37 => ?_)
    · replace hf := o_f hf c_37
      refine lv_iinc (lv' := [(2, .int (q.1 + (1 : Int32))), (0, .ref (xo E)), (1, .int y1), (3, .int q.2.1), (4, .int q.2.2.1)]) hx hb dX0_crowns_43 hl (k := 2) rfl (m_inc (by decide)) (by decide) rfl (fun ls hl => ?_)
      refine lv_iload hx hb dX0_crowns_46 (lv_at hl 4 rfl) ?_
      refine k_bind hf (fun v3 hv3 hf => ?_)
      refine s_call (As := [.int q.2.2.1]) (rest := []) S.1.1 (met_X0_ones hv3) wi_X0_ones q637 ⟨rfl, rfl⟩ ⟨Nat.le_of_ble_eq_true rfl, Nat.le_of_ble_eq_true rfl⟩ rfl hl.1 rfl (Nat.le_of_ble_eq_true rfl) dX0_crowns_48 hn.cs ?_
      refine lv_iload_n hx hb dX0_crowns_51 rfl (lv_at hl 3 rfl) ?_
      refine k_bind hf (fun v4 hv4 hf => ?_)
      refine s_call (As := [.int q.2.1]) (rest := [.int v3]) S.1.1 (met_X0_ones hv4) wi_X0_ones q637 ⟨rfl, rfl⟩ ⟨Nat.le_of_ble_eq_true rfl, Nat.le_of_ble_eq_true rfl⟩ rfl hl.1 rfl (Nat.le_of_ble_eq_true rfl) dX0_crowns_52 hn.cs ?_
      refine lv_icmp_le (tgt := 63) hx hb dX0_crowns_55 (by decide) (fun c_55 => ?_) (fun c_55 => ?_)
      · replace hf := o_t hf c_55
        refine lv_iload_n hx hb dX0_crowns_63 rfl (lv_at hl 3 rfl) ?_
        refine lv_istore_n (lv' := [(3, .int q.2.1), (2, .int (q.1 + (1 : Int32))), (0, .ref (xo E)), (1, .int y1), (4, .int q.2.2.1)]) hx hb dX0_crowns_64 rfl hl (by decide) rfl (fun ls hl => ?_)
        refine lv_iinc (lv' := [(4, .int (q.2.2.1 + (1 : Int32))), (3, .int q.2.1), (2, .int (q.1 + (1 : Int32))), (0, .ref (xo E)), (1, .int y1)]) hx hb dX0_crowns_65 hl (k := 4) rfl (m_inc (by decide)) (by decide) rfl (fun ls hl => ?_)
        refine lv_goto (tgt := 19) hx hb dX0_crowns_68 (by decide) ?_
        exact hK _ (Option.some.inj hf).symm _ _ _ _ _ hR hS hn (lv_sub (l' := [(0, .ref (xo E)), (1, .int y1), (2, .int (q.1 + (1 : Int32))), (3, .int q.2.1), (4, .int (q.2.2.1 + (1 : Int32)))]) hl [3, 4, 2, 1, 0] rfl)
      · replace hf := o_f hf c_55
        refine lv_iload hx hb dX0_crowns_58 (lv_at hl 4 rfl) ?_
        refine lv_goto (tgt := 64) hx hb dX0_crowns_60 (by decide) ?_
        refine lv_istore_n (lv' := [(3, .int q.2.2.1), (2, .int (q.1 + (1 : Int32))), (0, .ref (xo E)), (1, .int y1), (4, .int q.2.2.1)]) hx hb dX0_crowns_64 rfl hl (by decide) rfl (fun ls hl => ?_)
        refine lv_iinc (lv' := [(4, .int (q.2.2.1 + (1 : Int32))), (3, .int q.2.2.1), (2, .int (q.1 + (1 : Int32))), (0, .ref (xo E)), (1, .int y1)]) hx hb dX0_crowns_65 hl (k := 4) rfl (m_inc (by decide)) (by decide) rfl (fun ls hl => ?_)
        refine lv_goto (tgt := 19) hx hb dX0_crowns_68 (by decide) ?_
        exact hK _ (Option.some.inj hf).symm _ _ _ _ _ hR hS hn (lv_sub (l' := [(0, .ref (xo E)), (1, .int y1), (2, .int (q.1 + (1 : Int32))), (3, .int q.2.2.1), (4, .int (q.2.2.1 + (1 : Int32)))]) hl [3, 4, 2, 1, 0] rfl)
    · replace hf := o_t hf c_37
      refine lv_goto (tgt := 65) hx hb dX0_crowns_40 (by decide) ?_
      refine lv_iinc (lv' := [(4, .int (q.2.2.1 + (1 : Int32))), (0, .ref (xo E)), (1, .int y1), (2, .int q.1), (3, .int q.2.1)]) hx hb dX0_crowns_65 hl (k := 4) rfl (m_inc (by decide)) (by decide) rfl (fun ls hl => ?_)
      refine lv_goto (tgt := 19) hx hb dX0_crowns_68 (by decide) ?_
      exact hK _ (Option.some.inj hf).symm _ _ _ _ _ hR hS hn (lv_sub (l' := [(0, .ref (xo E)), (1, .int y1), (2, .int q.1), (3, .int q.2.1), (4, .int (q.2.2.1 + (1 : Int32)))]) hl [1, 2, 3, 4, 0] rfl)
set_option maxHeartbeats 4000000 in
set_option maxRecDepth 100000 in
theorem wLX0_crowns_19 {l : Launch} {E : xG} {p : Program} {e : Env} {s : State} {m : MethodId} {args : Array Value} {below : List Frame} {meth : Method} {c : Code} {Q : State → Prop} {n0 s0 nf sf : Nat} {y1 : Int32} {q : Int32 × Int32 × Int32 × xS} {res : Int32 × Int32 × xS} (S : xSt E RX0 p m c cX0_crowns 5 s args meth (Option.some Jvm.ClassFile.FieldType.int)) (h : lpw (LX0_crowns_19 y1) q = some res) (hE71 : ∀ b, res = b → (∀ (H : Heap) (locs : List Loc) (cells slots : Nat) (ls : Array Slot), xR E b.2.2 H → va_S (xAA E) s.heap H locs → XN cells slots n0 s0 nf sf b.2.2 → lv_has ls 5 [(0, .ref (xo E)), (1, .int y1), (2, .int b.1), (3, .int b.2.1)] → W p l e (xRm 22 500 (nf - n0) (sf - s0)) s m args below meth c H locs cells slots Q (F0 m 71 ls []))) : (∀ (H : Heap) (locs : List Loc) (cells slots : Nat) (ls : Array Slot), xR E q.2.2.2 H → va_S (xAA E) s.heap H locs → XN cells slots n0 s0 nf sf q.2.2.2 → lv_has ls 5 [(0, .ref (xo E)), (1, .int y1), (2, .int q.1), (3, .int q.2.1), (4, .int q.2.2.1)] → W p l e (xRm 22 500 (nf - n0) (sf - s0)) s m args below meth c H locs cells slots Q (F0 m 19 ls [])) :=
  lpw_go _ (fun q => (∀ (H : Heap) (locs : List Loc) (cells slots : Nat) (ls : Array Slot), xR E q.2.2.2 H → va_S (xAA E) s.heap H locs → XN cells slots n0 s0 nf sf q.2.2.2 → lv_has ls 5 [(0, .ref (xo E)), (1, .int y1), (2, .int q.1), (3, .int q.2.1), (4, .int q.2.2.1)] → W p l e (xRm 22 500 (nf - n0) (sf - s0)) s m args below meth c H locs cells slots Q (F0 m 19 ls []))) (fun b0 => (∀ b, b0 = b → (∀ (H : Heap) (locs : List Loc) (cells slots : Nat) (ls : Array Slot), xR E b.2.2 H → va_S (xAA E) s.heap H locs → XN cells slots n0 s0 nf sf b.2.2 → lv_has ls 5 [(0, .ref (xo E)), (1, .int y1), (2, .int b.1), (3, .int b.2.1)] → W p l e (xRm 22 500 (nf - n0) (sf - s0)) s m args below meth c H locs cells slots Q (F0 m 71 ls [])))) (fun q x hf hK hX => wbLX0_crowns_19 S hf hK (fun b eb => (hX _ eb) b rfl)) q res h hE71
set_option maxHeartbeats 4000000 in
set_option maxRecDepth 100000 in
theorem met_X0_crowns {l : Launch} {E : xG} {x1 : Int32} {σ : xS} {res : Int32 × xS} (hf : fX0_crowns x1 σ = some res) : xMet l yX0_crowns cX0_crowns 5 (Option.some Jvm.ClassFile.FieldType.int) 22 500 E [.ref (xo E), .int x1] σ (some (.int res.1)) res.2 := by
  replace hf : (if (fX0_in x1 (0 : Int32) (2 : Int32)) = (0 : Int32) then some ((-2 : Int32), σ) else (lpw (LX0_crowns_19 x1) ((0 : Int32), (0 : Int32), (1 : Int32), σ)).bind (fun b5 => if x1 = (0 : Int32) then some (b5.1, b5.2.2) else if b5.1 = (0 : Int32) then some ((-1 : Int32), b5.2.2) else if x1 = (1 : Int32) then some (b5.2.1, b5.2.2) else (fX1_around (0 : Fin 3) b5.2.1 b5.2.2).bind (fun v6 => some (v6, b5.2.2)))) = some res := hf
  refine x_start (by decide) (Nat.le_of_ble_eq_true rfl) ?_
  intro p e s m args below meth c S hnm hR hS ls hl
  obtain ⟨hx, hb, hml, hown, hts⟩ := S.1.1
  have hl : lv_has ls 5 [(0, .ref (xo E)), (1, .int x1)] := hl
  have hn : XN 0 0 (xnx σ) (xns σ) (xnx res.2) (xns res.2) σ := ⟨Nat.zero_add _, Nat.zero_add _, (r0_X0_crowns (x1 := x1) (σ := σ) hf).le.1, (r0_X0_crowns (x1 := x1) (σ := σ) hf).le.2⟩
  refine lv_iload_n hx hb dX0_crowns_0 rfl (lv_at hl 1 rfl) ?_
  refine lv_iconst (v := 0) hx hb dX0_crowns_1 (by decide) ?_
  refine lv_iconst (v := 2) hx hb dX0_crowns_2 (by decide) ?_
  refine s_call (As := [.int x1, .int (0 : Int32), .int (2 : Int32)]) (rest := []) S.1.1 (met_X0_in rfl) wi_X0_in q479 ⟨rfl, rfl⟩ ⟨Nat.le_of_ble_eq_true rfl, Nat.le_of_ble_eq_true rfl⟩ rfl hl.1 rfl (Nat.le_of_ble_eq_true rfl) dX0_crowns_3 hn.cs ?_
  refine lv_if_ne (tgt := 12) hx hb dX0_crowns_6 (by decide) (fun c_6 => ?_) (fun c_6 => ?_)
  · replace hf := o_f hf c_6
    refine lv_iconst (v := 0) hx hb dX0_crowns_12 (by decide) ?_
    refine lv_istore_n (lv' := [(2, .int (0 : Int32)), (0, .ref (xo E)), (1, .int x1)]) hx hb dX0_crowns_13 rfl hl (by decide) rfl (fun ls hl => ?_)
    refine lv_iconst (v := 0) hx hb dX0_crowns_14 (by decide) ?_
    refine lv_istore_n (lv' := [(3, .int (0 : Int32)), (2, .int (0 : Int32)), (0, .ref (xo E)), (1, .int x1)]) hx hb dX0_crowns_15 rfl hl (by decide) rfl (fun ls hl => ?_)
    refine lv_iconst (v := 1) hx hb dX0_crowns_16 (by decide) ?_
    refine lv_istore (lv' := [(4, .int (1 : Int32)), (3, .int (0 : Int32)), (2, .int (0 : Int32)), (0, .ref (xo E)), (1, .int x1)]) hx hb dX0_crowns_17 hl (by decide) rfl (fun ls hl => ?_)
    refine k_bind hf (fun b5 hb5 hf => ?_)
    refine wLX0_crowns_19 S hb5 ?_ _ _ _ _ _ hR hS hn (lv_sub (l' := [(0, .ref (xo E)), (1, .int x1), (2, .int (0 : Int32)), (3, .int (0 : Int32)), (4, .int (1 : Int32))]) hl [3, 4, 2, 1, 0] rfl)
    · intro b eb; subst eb; intro H locs cells slots ls hR hS hn hl
      refine lv_iload_n hx hb dX0_crowns_71 rfl (lv_at hl 1 rfl) ?_
      refine lv_if_ne (tgt := 77) hx hb dX0_crowns_72 (by decide) (fun c_72 => ?_) (fun c_72 => ?_)
      · replace hf := o_f hf c_72
        refine lv_iload_n hx hb dX0_crowns_77 rfl (lv_at hl 2 rfl) ?_
        refine lv_if_ne (tgt := 85) hx hb dX0_crowns_78 (by decide) (fun c_78 => ?_) (fun c_78 => ?_)
        · replace hf := o_f hf c_78
          refine lv_iload_n hx hb dX0_crowns_85 rfl (lv_at hl 1 rfl) ?_
          refine lv_iconst (v := 1) hx hb dX0_crowns_86 (by decide) ?_
          refine lv_icmp_ne (tgt := 94) hx hb dX0_crowns_87 (by decide) (fun c_87 => ?_) (fun c_87 => ?_)
          · replace hf := o_f hf c_87
            refine lv_aload_n hx hb dX0_crowns_94 rfl (lv_at hl 0 rfl) ?_
            refine x_oget (k := 0) (v := .ref (xnt E (0 : Fin 3))) S hR (lk_X0_10 _ List.mem_cons_self) rfl dX0_crowns_95 ?_
            refine lv_iload_n hx hb dX0_crowns_98 rfl (lv_at hl 3 rfl) ?_
            refine k_bind hf (fun v6 hv6 hf => ?_)
            refine x_call (C := RX1) (As := [.int b5.2.1]) (rest := []) S hR hS hn (met_X1_around hv6) (rl1.rf _) (hn.b (rl0.rf _)) wi_X1_around (xrc S.2 hR (ci := 1) rfl (Or.inr (Or.inl ⟨_, rfl, rfl⟩))) rfl q1535 ⟨Nat.le_of_ble_eq_true rfl, Nat.le_of_ble_eq_true rfl⟩ rfl hl.1 rfl (Nat.le_of_ble_eq_true rfl) dX0_crowns_99 (fun H locs cells slots hR hS hn => ?_)
            obtain rfl := Option.some.inj hf
            exact x_iret S hR hS hn rfl dX0_crowns_102
          · replace hf := o_t hf c_87
            refine lv_iload_n hx hb dX0_crowns_90 rfl (lv_at hl 3 rfl) ?_
            refine lv_goto (tgt := 102) hx hb dX0_crowns_91 (by decide) ?_
            obtain rfl := Option.some.inj hf
            exact x_iret S hR hS hn rfl dX0_crowns_102
        · replace hf := o_t hf c_78
          refine lv_iconst (v := -1) hx hb dX0_crowns_81 (by decide) ?_
          refine lv_goto (tgt := 102) hx hb dX0_crowns_82 (by decide) ?_
          obtain rfl := Option.some.inj hf
          exact x_iret S hR hS hn rfl dX0_crowns_102
      · replace hf := o_t hf c_72
        refine lv_iload_n hx hb dX0_crowns_75 rfl (lv_at hl 2 rfl) ?_
        obtain rfl := Option.some.inj hf
        exact x_iret S hR hS hn rfl dX0_crowns_76
  · replace hf := o_t hf c_6
    refine lv_bipush (v := -2) hx hb dX0_crowns_9 (by decide) ?_
    obtain rfl := Option.some.inj hf
    exact x_iret S hR hS hn rfl dX0_crowns_11
