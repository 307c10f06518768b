/-! the component, walked: X0_findsKernel X0_kernel X0_round X0_packOf X0_pack -/
theorem lk_X0_351 : ∀ q ∈ ([(0, 13)] : List (Nat × Nat)), wLk RX0 351 q.1 q.2 := List.forall_mem_cons.mpr ⟨⟨RX0, TX0, 32, "LinesTouched", rfl, by decide, in_X0, q391, Or.inl rfl⟩, fun _ h => absurd h List.not_mem_nil⟩
theorem pt_X0_351 : ∀ q ∈ ([(0, 13)] : List (Nat × Nat)), wLk RX0 351 q.1 q.2 ∧ wPt q.1 q.2 .int false RX0 := List.forall_mem_cons.mpr ⟨⟨⟨RX0, TX0, 32, "LinesTouched", rfl, by decide, in_X0, q391, Or.inl rfl⟩, ⟨RX0, TX0, 32, tyX0, rfl, by decide, rfl, by decide +kernel, nmX0, tyX0_ok, fun h => absurd h (by decide)⟩⟩, fun _ h => absurd h List.not_mem_nil⟩
theorem lk_X0_354 : ∀ q ∈ ([(0, 14)] : List (Nat × Nat)), wLk RX0 354 q.1 q.2 := List.forall_mem_cons.mpr ⟨⟨RX0, TX0, 32, "LinesTouched", rfl, by decide, in_X0, q392, Or.inl rfl⟩, fun _ h => absurd h List.not_mem_nil⟩
theorem pt_X0_354 : ∀ q ∈ ([(0, 14)] : List (Nat × Nat)), wLk RX0 354 q.1 q.2 ∧ wPt q.1 q.2 .int false RX0 := List.forall_mem_cons.mpr ⟨⟨⟨RX0, TX0, 32, "LinesTouched", rfl, by decide, in_X0, q392, Or.inl rfl⟩, ⟨RX0, TX0, 32, tyX0, rfl, by decide, rfl, by decide +kernel, nmX0, tyX0_ok, fun h => absurd h (by decide)⟩⟩, fun _ h => absurd h List.not_mem_nil⟩
theorem lk_X0_357 : ∀ q ∈ ([(0, 15)] : List (Nat × Nat)), wLk RX0 357 q.1 q.2 := List.forall_mem_cons.mpr ⟨⟨RX0, TX0, 32, "LinesTouched", rfl, by decide, in_X0, q393, Or.inl rfl⟩, fun _ h => absurd h List.not_mem_nil⟩
theorem pt_X0_357 : ∀ q ∈ ([(0, 15)] : List (Nat × Nat)), wLk RX0 357 q.1 q.2 ∧ wPt q.1 q.2 .int false RX0 := List.forall_mem_cons.mpr ⟨⟨⟨RX0, TX0, 32, "LinesTouched", rfl, by decide, in_X0, q393, Or.inl rfl⟩, ⟨RX0, TX0, 32, tyX0, rfl, by decide, rfl, by decide +kernel, nmX0, tyX0_ok, fun h => absurd h (by decide)⟩⟩, fun _ h => absurd h List.not_mem_nil⟩
theorem lk_X0_360 : ∀ q ∈ ([(0, 12)] : List (Nat × Nat)), wLk RX0 360 q.1 q.2 := List.forall_mem_cons.mpr ⟨⟨RX0, TX0, 32, "LinesTouched", rfl, by decide, in_X0, q390, Or.inl rfl⟩, fun _ h => absurd h List.not_mem_nil⟩
theorem pt_X0_360 : ∀ q ∈ ([(0, 12)] : List (Nat × Nat)), wLk RX0 360 q.1 q.2 ∧ wPt q.1 q.2 .int false RX0 := List.forall_mem_cons.mpr ⟨⟨⟨RX0, TX0, 32, "LinesTouched", rfl, by decide, in_X0, q390, Or.inl rfl⟩, ⟨RX0, TX0, 32, tyX0, rfl, by decide, rfl, by decide +kernel, nmX0, tyX0_ok, fun h => absurd h (by decide)⟩⟩, fun _ h => absurd h List.not_mem_nil⟩
theorem lk_X0_39 : ∀ q ∈ ([(0, 10)] : List (Nat × Nat)), wLk RX0 39 q.1 q.2 := List.forall_mem_cons.mpr ⟨⟨RX0, TX0, 32, "LinesTouched", rfl, by decide, in_X0, q388, Or.inl rfl⟩, fun _ h => absurd h List.not_mem_nil⟩
noncomputable def fX0_findsKernel (x1 : Int32) (σ : xS) : Option (xS) :=
  (fX1_all (0 : Fin 3) σ).bind (fun v1 => (xpI σ 13 v1).bind (fun σ2 => (xpI σ2 14 (0 : Int32)).bind (fun σ3 => (xpI σ3 15 x1).bind (fun σ4 => (xpI σ4 12 (0 : Int32)).bind (fun σ5 => if (xI σ5 15) < (0 : Int32) then some σ5 else (some (Int32.ofNat (xal 2))).bind (fun v7 => if v7 ≤ (0 : Int32) then some σ5 else (xlr σ5 2 (0 : Int32)).bind (fun v8 => none)))))))
theorem wi_X0_findsKernel : wInfV yX0_findsKernel cX0_findsKernel 7 (Option.none : Option Jvm.ClassFile.FieldType) 1 := ⟨q1546, qs25, q106, q1547, (by decide +kernel), (by decide +kernel), (by decide +kernel)⟩
set_option maxHeartbeats 4000000 in
set_option maxRecDepth 100000 in
theorem r0_X0_findsKernel {x1 : Int32} {σ : xS} {res : xS} (hf : fX0_findsKernel x1 σ = some res) : rl0 σ res := by
  replace hf : ((fX1_all (0 : Fin 3) σ).bind (fun v1 => (xpI σ 13 v1).bind (fun σ2 => (xpI σ2 14 (0 : Int32)).bind (fun σ3 => (xpI σ3 15 x1).bind (fun σ4 => (xpI σ4 12 (0 : Int32)).bind (fun σ5 => if (xI σ5 15) < (0 : Int32) then some σ5 else (some (Int32.ofNat (xal 2))).bind (fun v7 => if v7 ≤ (0 : Int32) then some σ5 else (xlr σ5 2 (0 : Int32)).bind (fun v8 => none)))))))) = some res := hf
  refine k_bind hf (fun v1 hv1 hf => ?_)
  refine k_bind hf (fun σ2 hσ2 hf => ?_)
  refine rl0.tr (r0_pI hσ2) ?_
  refine k_bind hf (fun σ3 hσ3 hf => ?_)
  refine rl0.tr (r0_pI hσ3) ?_
  refine k_bind hf (fun σ4 hσ4 hf => ?_)
  refine rl0.tr (r0_pI hσ4) ?_
  refine k_bind hf (fun σ5 hσ5 hf => ?_)
  refine rl0.tr (r0_pI hσ5) ?_
  by_cases c0 : (xI σ5 15) < (0 : Int32)
  · replace hf := o_t hf c0
    obtain rfl := Option.some.inj hf
    exact rl0.rf _
  · replace hf := o_f hf c0
    refine k_bind hf (fun v7 hv7 hf => ?_)
    by_cases c0 : v7 ≤ (0 : Int32)
    · replace hf := o_t hf c0
      obtain rfl := Option.some.inj hf
      exact rl0.rf _
    · replace hf := o_f hf c0
      refine k_bind hf (fun v8 hv8 hf => ?_)
      cases hf
set_option maxHeartbeats 4000000 in
set_option maxRecDepth 100000 in
theorem met_X0_findsKernel {l : Launch} {E : xG} {x1 : Int32} {σ : xS} {res : xS} (hf : fX0_findsKernel x1 σ = some res) : xMet l yX0_findsKernel cX0_findsKernel 7 (Option.none : Option Jvm.ClassFile.FieldType) 1 20 E [.ref (xo E), .int x1] σ none res := by
  replace hf : ((fX1_all (0 : Fin 3) σ).bind (fun v1 => (xpI σ 13 v1).bind (fun σ2 => (xpI σ2 14 (0 : Int32)).bind (fun σ3 => (xpI σ3 15 x1).bind (fun σ4 => (xpI σ4 12 (0 : Int32)).bind (fun σ5 => if (xI σ5 15) < (0 : Int32) then some σ5 else (some (Int32.ofNat (xal 2))).bind (fun v7 => if v7 ≤ (0 : Int32) then some σ5 else (xlr σ5 2 (0 : Int32)).bind (fun v8 => none)))))))) = some res := hf
  refine x_start (by decide) (Nat.le_of_ble_eq_true rfl) ?_
  intro p e s m args below meth c S hnm hR hS ls hl
  obtain ⟨hx, hb, hml, hown, hts⟩ := S.1.1
  have hl : lv_has ls 7 [(0, .ref (xo E)), (1, .int x1)] := hl
  have hn : XN 0 0 (xnx σ) (xns σ) (xnx res) (xns res) σ := ⟨Nat.zero_add _, Nat.zero_add _, (r0_X0_findsKernel (x1 := x1) (σ := σ) hf).le.1, (r0_X0_findsKernel (x1 := x1) (σ := σ) hf).le.2⟩
  refine lv_aload_n hx hb dX0_findsKernel_0 rfl (lv_at hl 0 rfl) ?_
  refine lv_aload_n hx hb dX0_findsKernel_1 rfl (lv_at hl 0 rfl) ?_
  refine x_oget (k := 0) (v := .ref (xnt E (0 : Fin 3))) S hR (lk_X0_10 _ List.mem_cons_self) rfl dX0_findsKernel_2 ?_
  refine k_bind hf (fun v1 hv1 hf => ?_)
  refine x_call (C := RX1) (As := []) (rest := [.ref (xo E)]) S hR hS hn (met_X1_all hv1) (rl1.rf _) (hn.b (rl0.rf _)) wi_X1_all (xrc S.2 hR (ci := 1) rfl (Or.inr (Or.inl ⟨_, rfl, rfl⟩))) rfl q663 ⟨Nat.le_of_ble_eq_true rfl, Nat.le_of_ble_eq_true rfl⟩ rfl hl.1 rfl (Nat.le_of_ble_eq_true rfl) dX0_findsKernel_5 (fun H locs cells slots hR hS hn => ?_)
  refine k_bind hf (fun σ2 hσ2 hf => ?_)
  refine x_oput (k := 13) S hR hS hσ2 rfl (pt_X0_351 _ List.mem_cons_self).1 (pt_X0_351 _ List.mem_cons_self).2 rfl rfl (by decide) dX0_findsKernel_8 (fun H locs hR hS => ?_)
  replace hn := hn.to (r0_pI hσ2)
  refine lv_aload_n hx hb dX0_findsKernel_11 rfl (lv_at hl 0 rfl) ?_
  refine lv_iconst (v := 0) hx hb dX0_findsKernel_12 (by decide) ?_
  refine k_bind hf (fun σ3 hσ3 hf => ?_)
  refine x_oput (k := 14) S hR hS hσ3 rfl (pt_X0_354 _ List.mem_cons_self).1 (pt_X0_354 _ List.mem_cons_self).2 rfl rfl (by decide) dX0_findsKernel_13 (fun H locs hR hS => ?_)
  replace hn := hn.to (r0_pI hσ3)
  refine lv_aload_n hx hb dX0_findsKernel_16 rfl (lv_at hl 0 rfl) ?_
  refine lv_iload_n hx hb dX0_findsKernel_17 rfl (lv_at hl 1 rfl) ?_
  refine k_bind hf (fun σ4 hσ4 hf => ?_)
  refine x_oput (k := 15) S hR hS hσ4 rfl (pt_X0_357 _ List.mem_cons_self).1 (pt_X0_357 _ List.mem_cons_self).2 rfl rfl (by decide) dX0_findsKernel_18 (fun H locs hR hS => ?_)
  replace hn := hn.to (r0_pI hσ4)
  refine lv_aload_n hx hb dX0_findsKernel_21 rfl (lv_at hl 0 rfl) ?_
  refine lv_iconst (v := 0) hx hb dX0_findsKernel_22 (by decide) ?_
  refine k_bind hf (fun σ5 hσ5 hf => ?_)
  refine x_oput (k := 12) S hR hS hσ5 rfl (pt_X0_360 _ List.mem_cons_self).1 (pt_X0_360 _ List.mem_cons_self).2 rfl rfl (by decide) dX0_findsKernel_23 (fun H locs hR hS => ?_)
  replace hn := hn.to (r0_pI hσ5)
  refine lv_aload_n hx hb dX0_findsKernel_26 rfl (lv_at hl 0 rfl) ?_
  refine x_oget (k := 15) (v := .int (xI σ5 15)) S hR (lk_X0_357 _ List.mem_cons_self) rfl dX0_findsKernel_27 ?_
  refine lv_if_lt (tgt := 161) hx hb dX0_findsKernel_30 (by decide) (fun c_30 => ?_) (fun c_30 => ?_)
  · replace hf := o_t hf c_30
    obtain rfl := Option.some.inj hf
    exact x_vret S hR hS hn dX0_findsKernel_161
  · replace hf := o_f hf c_30
    refine lv_aload_n hx hb dX0_findsKernel_33 rfl (lv_at hl 0 rfl) ?_
    refine x_oget (k := 10) (v := .ref (xar E 2)) S hR (lk_X0_39 _ List.mem_cons_self) rfl dX0_findsKernel_34 ?_
    refine lv_astore_n (lv' := [(2, .ref (xar E 2)), (0, .ref (xo E)), (1, .int x1)]) hx hb dX0_findsKernel_37 rfl hl (by decide) rfl (fun ls hl => ?_)
    refine lv_aload_n hx hb dX0_findsKernel_38 rfl (lv_at hl 0 rfl) ?_
    refine x_salen S hR (by decide) dX0_findsKernel_39 ?_
    refine k_bind hf (fun v7 hv7 hf => ?_)
    refine m_nmi hv7 ?_
    refine lv_istore_n (lv' := [(3, .int v7), (2, .ref (xar E 2)), (0, .ref (xo E)), (1, .int x1)]) hx hb dX0_findsKernel_40 rfl hl (by decide) rfl (fun ls hl => ?_)
    refine lv_iconst (v := 0) hx hb dX0_findsKernel_41 (by decide) ?_
    refine lv_istore (lv' := [(4, .int (0 : Int32)), (3, .int v7), (2, .ref (xar E 2)), (0, .ref (xo E)), (1, .int x1)]) hx hb dX0_findsKernel_42 hl (by decide) rfl (fun ls hl => ?_)
    refine lv_iload hx hb dX0_findsKernel_44 (lv_at hl 0 rfl) ?_
    refine lv_iload_n hx hb dX0_findsKernel_46 rfl (lv_at hl 1 rfl) ?_
    refine lv_icmp_ge (tgt := 158) hx hb dX0_findsKernel_47 (by decide) (fun c_47 => ?_) (fun c_47 => ?_)
    · replace hf := o_t hf c_47
      refine lv_goto (tgt := 161) hx hb dX0_findsKernel_158 (by decide) ?_
      obtain rfl := Option.some.inj hf
      exact x_vret S hR hS hn dX0_findsKernel_161
    · replace hf := o_f hf c_47
      refine lv_aload_n hx hb dX0_findsKernel_50 rfl (lv_at hl 2 rfl) ?_
      refine lv_iload hx hb dX0_findsKernel_51 (lv_at hl 0 rfl) ?_
      refine k_bind hf (fun v8 hv8 hf => ?_)
      refine x_slr S hR hv8 dX0_findsKernel_53 ?_
      refine x_astore (r := v8) (lv' := [(5, va_rf v8), (4, .int (0 : Int32)), (3, .int v7), (2, .ref (xar E 2)), (0, .ref (xo E)), (1, .int x1)]) hx hb dX0_findsKernel_54 hl (by decide) rfl (fun ls hl => ?_)
      refine x_aload (r := v8) hx hb dX0_findsKernel_56 (lv_at hl 0 rfl) ?_
      refine lv_aload_n hx hb dX0_findsKernel_58 rfl (lv_at hl 4 rfl) ?_
      refine x_oget (k := 13) (v := .int (xI σ5 13)) S hR (lk_X0_351 _ List.mem_cons_self) rfl dX0_findsKernel_59 ?_
      refine lv_aload_n hx hb dX0_findsKernel_62 rfl (lv_at hl 4 rfl) ?_
      refine x_oget (k := 15) (v := .int (xI σ5 15)) S hR (lk_X0_357 _ List.mem_cons_self) rfl dX0_findsKernel_63 ?_
      cases hf


noncomputable def JX0_kernel_55 (y2 : Int32) (z0 : Int32) (σ : xS) : Option (Int32 × xS) :=
  if y2 = (0 : Int32) then some ((xI σ 13), σ) else if y2 = (1 : Int32) then some ((xI σ 14), σ) else if y2 = (2 : Int32) then some (((xI σ 15) + (20 : Int32)), σ) else if y2 = (3 : Int32) then some ((xI σ 12), σ) else if z0 = (0 : Int32) then some ((0 : Int32), σ) else some ((1 : Int32), σ)
noncomputable def fX0_kernel (x1 : Int32) (x2 : Int32) (σ : xS) : Option (Int32 × xS) :=
  if (fX0_in x1 (0 : Int32) (12 : Int32)) = (0 : Int32) then some ((-2 : Int32), σ) else if (fX0_in x2 (0 : Int32) (4 : Int32)) = (0 : Int32) then some ((-2 : Int32), σ) else (fX0_findsKernel x1 σ).bind (fun e1 => if (xI e1 15) < (0 : Int32) then JX0_kernel_55 x2 (1 : Int32) e1 else (fX0_ones (xI e1 13)).bind (fun v2 => if v2 ≤ ((2 : Int32) * (xI e1 15)) then JX0_kernel_55 x2 (0 : Int32) e1 else JX0_kernel_55 x2 (1 : Int32) e1))
theorem wi_X0_kernel : wInfV yX0_kernel cX0_kernel 4 (Option.some Jvm.ClassFile.FieldType.int) 2 := ⟨q1541, q1542, q106, q1543, (by decide +kernel), (by decide +kernel), (by decide +kernel)⟩
set_option maxHeartbeats 4000000 in
set_option maxRecDepth 100000 in
theorem rJX0_kernel_55 {y2 : Int32} {z0 : Int32} {σ : xS} {res : Int32 × xS} (hf : JX0_kernel_55 y2 z0 σ = some res) : rl0 σ res.2 := by
  replace hf : (if y2 = (0 : Int32) then some ((xI σ 13), σ) else if y2 = (1 : Int32) then some ((xI σ 14), σ) else if y2 = (2 : Int32) then some (((xI σ 15) + (20 : Int32)), σ) else if y2 = (3 : Int32) then some ((xI σ 12), σ) else if z0 = (0 : Int32) then some ((0 : Int32), σ) else some ((1 : Int32), σ)) = some res := hf
  by_cases c0 : y2 = (0 : Int32)
  · replace hf := o_t hf c0
    obtain rfl := Option.some.inj hf
    exact rl0.rf _
  · replace hf := o_f hf c0
    by_cases c0 : y2 = (1 : Int32)
    · replace hf := o_t hf c0
      obtain rfl := Option.some.inj hf
      exact rl0.rf _
    · replace hf := o_f hf c0
      by_cases c0 : y2 = (2 : Int32)
      · replace hf := o_t hf c0
        obtain rfl := Option.some.inj hf
        exact rl0.rf _
      · replace hf := o_f hf c0
        by_cases c0 : y2 = (3 : Int32)
        · replace hf := o_t hf c0
          obtain rfl := Option.some.inj hf
          exact rl0.rf _
        · replace hf := o_f hf c0
          by_cases c0 : z0 = (0 : Int32)
          · replace hf := o_t hf c0
            obtain rfl := Option.some.inj hf
            exact rl0.rf _
          · replace hf := o_f hf c0
            obtain rfl := Option.some.inj hf
            exact rl0.rf _
set_option maxHeartbeats 4000000 in
set_option maxRecDepth 100000 in
theorem r0_X0_kernel {x1 : Int32} {x2 : Int32} {σ : xS} {res : Int32 × xS} (hf : fX0_kernel x1 x2 σ = some res) : rl0 σ res.2 := by
  replace hf : (if (fX0_in x1 (0 : Int32) (12 : Int32)) = (0 : Int32) then some ((-2 : Int32), σ) else if (fX0_in x2 (0 : Int32) (4 : Int32)) = (0 : Int32) then some ((-2 : Int32), σ) else (fX0_findsKernel x1 σ).bind (fun e1 => if (xI e1 15) < (0 : Int32) then JX0_kernel_55 x2 (1 : Int32) e1 else (fX0_ones (xI e1 13)).bind (fun v2 => if v2 ≤ ((2 : Int32) * (xI e1 15)) then JX0_kernel_55 x2 (0 : Int32) e1 else JX0_kernel_55 x2 (1 : Int32) e1))) = some res := hf
  by_cases c0 : (fX0_in x1 (0 : Int32) (12 : Int32)) = (0 : Int32)
  · replace hf := o_t hf c0
    obtain rfl := Option.some.inj hf
    exact rl0.rf _
  · replace hf := o_f hf c0
    by_cases c0 : (fX0_in x2 (0 : Int32) (4 : Int32)) = (0 : Int32)
    · replace hf := o_t hf c0
      obtain rfl := Option.some.inj hf
      exact rl0.rf _
    · replace hf := o_f hf c0
      refine k_bind hf (fun e1 he1 hf => ?_)
      refine rl0.tr (r0_X0_findsKernel he1) ?_
      by_cases c0 : (xI e1 15) < (0 : Int32)
      · replace hf := o_t hf c0
        exact rJX0_kernel_55 hf
      · replace hf := o_f hf c0
        refine k_bind hf (fun v2 hv2 hf => ?_)
        by_cases c0 : v2 ≤ ((2 : Int32) * (xI e1 15))
        · replace hf := o_t hf c0
          exact rJX0_kernel_55 hf
        · replace hf := o_f hf c0
          exact rJX0_kernel_55 hf
set_option maxHeartbeats 4000000 in
set_option maxRecDepth 100000 in
theorem wJX0_kernel_55 {l : Launch} {E : xG} {p : Program} {e : Env} {s : State} {m : MethodId} {args : Array Value} {below : List Frame} {meth : Method} {c : Code} {σ0 : xS} {y2 : Int32} {z0 : Int32} {σ : xS} {res : Int32 × xS} (S : xSt E RX0 p m c cX0_kernel 4 s args meth (Option.some Jvm.ClassFile.FieldType.int)) (hf : JX0_kernel_55 y2 z0 σ = some res) : ∀ (H : Heap) (locs : List Loc) (cells slots : Nat) (ls : Array Slot), xR E σ H → va_S (xAA E) s.heap H locs → XN cells slots (xnx σ0) (xns σ0) (xnx res.2) (xns res.2) σ → lv_has ls 4 [(0, .ref (xo E)), (2, .int y2)] → W p l e (xRm 2 46 ((xnx res.2) - (xnx σ0)) ((xns res.2) - (xns σ0))) s m args below meth c H locs cells slots (MQ below (xQ E (some (.int res.1)) res.2) args s (xnx res.2 - xnx σ0) (xns res.2 - xns σ0) (xAA E)) (F0 m 55 ls [.int z0]) := by
  replace hf : (if y2 = (0 : Int32) then some ((xI σ 13), σ) else if y2 = (1 : Int32) then some ((xI σ 14), σ) else if y2 = (2 : Int32) then some (((xI σ 15) + (20 : Int32)), σ) else if y2 = (3 : Int32) then some ((xI σ 12), σ) else if z0 = (0 : Int32) then some ((0 : Int32), σ) else some ((1 : Int32), σ)) = some res := hf
  obtain ⟨hx, hb, hml, hown, hts⟩ := S.1.1
  intro H locs cells slots ls hR hS hn hl
  refine lv_istore_n (lv' := [(3, .int z0), (0, .ref (xo E)), (2, .int y2)]) hx hb dX0_kernel_55 rfl hl (by decide) rfl (fun ls hl => ?_)
  refine lv_iload_n hx hb dX0_kernel_56 rfl (lv_at hl 2 rfl) ?_
  refine lv_if_ne (tgt := 67) hx hb dX0_kernel_57 (by decide) (fun c_57 => ?_) (fun c_57 => ?_)
  · replace hf := o_f hf c_57
    refine lv_iload_n hx hb dX0_kernel_67 rfl (lv_at hl 2 rfl) ?_
    refine lv_iconst (v := 1) hx hb dX0_kernel_68 (by decide) ?_
    refine lv_icmp_ne (tgt := 79) hx hb dX0_kernel_69 (by decide) (fun c_69 => ?_) (fun c_69 => ?_)
    · replace hf := o_f hf c_69
      refine lv_iload_n hx hb dX0_kernel_79 rfl (lv_at hl 2 rfl) ?_
      refine lv_iconst (v := 2) hx hb dX0_kernel_80 (by decide) ?_
      refine lv_icmp_ne (tgt := 94) hx hb dX0_kernel_81 (by decide) (fun c_81 => ?_) (fun c_81 => ?_)
      · replace hf := o_f hf c_81
        refine lv_iload_n hx hb dX0_kernel_94 rfl (lv_at hl 2 rfl) ?_
        refine lv_iconst (v := 3) hx hb dX0_kernel_95 (by decide) ?_
        refine lv_icmp_ne (tgt := 106) hx hb dX0_kernel_96 (by decide) (fun c_96 => ?_) (fun c_96 => ?_)
        · replace hf := o_f hf c_96
          refine lv_iload_n hx hb dX0_kernel_106 rfl (lv_at hl 0 rfl) ?_
          refine lv_if_eq (tgt := 114) hx hb dX0_kernel_107 (by decide) (fun c_107 => ?_) (fun c_107 => ?_)
          · replace hf := o_t hf c_107
            refine lv_iconst (v := 0) hx hb dX0_kernel_114 (by decide) ?_
            obtain rfl := Option.some.inj hf
            exact x_iret S hR hS hn rfl dX0_kernel_115
          · replace hf := o_f hf c_107
            refine lv_iconst (v := 1) hx hb dX0_kernel_110 (by decide) ?_
            refine lv_goto (tgt := 115) hx hb dX0_kernel_111 (by decide) ?_
            obtain rfl := Option.some.inj hf
            exact x_iret S hR hS hn rfl dX0_kernel_115
        · replace hf := o_t hf c_96
          refine lv_aload_n hx hb dX0_kernel_99 rfl (lv_at hl 1 rfl) ?_
          refine x_oget (k := 12) (v := .int (xI σ 12)) S hR (lk_X0_360 _ List.mem_cons_self) rfl dX0_kernel_100 ?_
          refine lv_goto (tgt := 115) hx hb dX0_kernel_103 (by decide) ?_
          obtain rfl := Option.some.inj hf
          exact x_iret S hR hS hn rfl dX0_kernel_115
      · replace hf := o_t hf c_81
        refine lv_aload_n hx hb dX0_kernel_84 rfl (lv_at hl 1 rfl) ?_
        refine x_oget (k := 15) (v := .int (xI σ 15)) S hR (lk_X0_357 _ List.mem_cons_self) rfl dX0_kernel_85 ?_
        refine lv_bipush (v := 20) hx hb dX0_kernel_88 (by decide) ?_
        refine lv_iadd hx hb dX0_kernel_90 ?_
        refine lv_goto (tgt := 115) hx hb dX0_kernel_91 (by decide) ?_
        obtain rfl := Option.some.inj hf
        exact x_iret S hR hS hn rfl dX0_kernel_115
    · replace hf := o_t hf c_69
      refine lv_aload_n hx hb dX0_kernel_72 rfl (lv_at hl 1 rfl) ?_
      refine x_oget (k := 14) (v := .int (xI σ 14)) S hR (lk_X0_354 _ List.mem_cons_self) rfl dX0_kernel_73 ?_
      refine lv_goto (tgt := 115) hx hb dX0_kernel_76 (by decide) ?_
      obtain rfl := Option.some.inj hf
      exact x_iret S hR hS hn rfl dX0_kernel_115
  · replace hf := o_t hf c_57
    refine lv_aload_n hx hb dX0_kernel_60 rfl (lv_at hl 1 rfl) ?_
    refine x_oget (k := 13) (v := .int (xI σ 13)) S hR (lk_X0_351 _ List.mem_cons_self) rfl dX0_kernel_61 ?_
    refine lv_goto (tgt := 115) hx hb dX0_kernel_64 (by decide) ?_
    obtain rfl := Option.some.inj hf
    exact x_iret S hR hS hn rfl dX0_kernel_115
set_option maxHeartbeats 4000000 in
set_option maxRecDepth 100000 in
theorem met_X0_kernel {l : Launch} {E : xG} {x1 : Int32} {x2 : Int32} {σ : xS} {res : Int32 × xS} (hf : fX0_kernel x1 x2 σ = some res) : xMet l yX0_kernel cX0_kernel 4 (Option.some Jvm.ClassFile.FieldType.int) 2 46 E [.ref (xo E), .int x1, .int x2] σ (some (.int res.1)) res.2 := by
  replace hf : (if (fX0_in x1 (0 : Int32) (12 : Int32)) = (0 : Int32) then some ((-2 : Int32), σ) else if (fX0_in x2 (0 : Int32) (4 : Int32)) = (0 : Int32) then some ((-2 : Int32), σ) else (fX0_findsKernel x1 σ).bind (fun e1 => if (xI e1 15) < (0 : Int32) then JX0_kernel_55 x2 (1 : Int32) e1 else (fX0_ones (xI e1 13)).bind (fun v2 => if v2 ≤ ((2 : Int32) * (xI e1 15)) then JX0_kernel_55 x2 (0 : Int32) e1 else JX0_kernel_55 x2 (1 : Int32) e1))) = some res := hf
  refine x_start (by decide) (Nat.le_of_ble_eq_true rfl) ?_
  intro p e s m args below meth c S hnm hR hS ls hl
  obtain ⟨hx, hb, hml, hown, hts⟩ := S.1.1
  have hl : lv_has ls 4 [(0, .ref (xo E)), (1, .int x1), (2, .int x2)] := hl
  have hn : XN 0 0 (xnx σ) (xns σ) (xnx res.2) (xns res.2) σ := ⟨Nat.zero_add _, Nat.zero_add _, (r0_X0_kernel (x1 := x1) (x2 := x2) (σ := σ) hf).le.1, (r0_X0_kernel (x1 := x1) (x2 := x2) (σ := σ) hf).le.2⟩
  refine lv_iload_n hx hb dX0_kernel_0 rfl (lv_at hl 1 rfl) ?_
  refine lv_iconst (v := 0) hx hb dX0_kernel_1 (by decide) ?_
  refine lv_bipush (v := 12) hx hb dX0_kernel_2 (by decide) ?_
  refine s_call (As := [.int x1, .int (0 : Int32), .int (12 : Int32)]) (rest := []) S.1.1 (met_X0_in rfl) wi_X0_in q479 ⟨rfl, rfl⟩ ⟨Nat.le_of_ble_eq_true rfl, Nat.le_of_ble_eq_true rfl⟩ rfl hl.1 rfl (Nat.le_of_ble_eq_true rfl) dX0_kernel_4 hn.cs ?_
  refine lv_if_eq (tgt := 19) hx hb dX0_kernel_7 (by decide) (fun c_7 => ?_) (fun c_7 => ?_)
  · replace hf := o_t hf c_7
    refine lv_bipush (v := -2) hx hb dX0_kernel_19 (by decide) ?_
    obtain rfl := Option.some.inj hf
    exact x_iret S hR hS hn rfl dX0_kernel_21
  · replace hf := o_f hf c_7
    refine lv_iload_n hx hb dX0_kernel_10 rfl (lv_at hl 2 rfl) ?_
    refine lv_iconst (v := 0) hx hb dX0_kernel_11 (by decide) ?_
    refine lv_iconst (v := 4) hx hb dX0_kernel_12 (by decide) ?_
    refine s_call (As := [.int x2, .int (0 : Int32), .int (4 : Int32)]) (rest := []) S.1.1 (met_X0_in rfl) wi_X0_in q479 ⟨rfl, rfl⟩ ⟨Nat.le_of_ble_eq_true rfl, Nat.le_of_ble_eq_true rfl⟩ rfl hl.1 rfl (Nat.le_of_ble_eq_true rfl) dX0_kernel_13 hn.cs ?_
    refine lv_if_ne (tgt := 22) hx hb dX0_kernel_16 (by decide) (fun c_16 => ?_) (fun c_16 => ?_)
    · replace hf := o_f hf c_16
      refine lv_aload_n hx hb dX0_kernel_22 rfl (lv_at hl 0 rfl) ?_
      refine lv_iload_n hx hb dX0_kernel_23 rfl (lv_at hl 1 rfl) ?_
      refine k_bind hf (fun e1 he1 hf => ?_)
      refine x_call (C := RX0) (As := [.int x1]) (rest := []) S hR hS hn (met_X0_findsKernel he1) (r0_X0_findsKernel he1).le (hn.b (r0_X0_findsKernel he1)) wi_X0_findsKernel (xrc S.2 hR (ci := 0) rfl (Or.inl ⟨rfl, rfl⟩)) rfl q1544 ⟨Nat.le_of_ble_eq_true rfl, Nat.le_of_ble_eq_true rfl⟩ rfl hl.1 rfl (Nat.le_of_ble_eq_true rfl) dX0_kernel_24 (fun H locs cells slots hR hS hn => ?_)
      refine lv_aload_n hx hb dX0_kernel_27 rfl (lv_at hl 0 rfl) ?_
      refine x_oget (k := 15) (v := .int (xI e1 15)) S hR (lk_X0_357 _ List.mem_cons_self) rfl dX0_kernel_28 ?_
      refine lv_if_lt (tgt := 50) hx hb dX0_kernel_31 (by decide) (fun c_31 => ?_) (fun c_31 => ?_)
      · replace hf := o_t hf c_31
        refine lv_iconst (v := 1) hx hb dX0_kernel_50 (by decide) ?_
        refine lv_goto (tgt := 55) hx hb dX0_kernel_51 (by decide) ?_
        exact wJX0_kernel_55 S hf _ _ _ _ _ hR hS hn (lv_sub (l' := [(0, .ref (xo E)), (2, .int x2)]) hl [0, 2] rfl)
      · replace hf := o_f hf c_31
        refine lv_aload_n hx hb dX0_kernel_34 rfl (lv_at hl 0 rfl) ?_
        refine x_oget (k := 13) (v := .int (xI e1 13)) S hR (lk_X0_351 _ List.mem_cons_self) rfl dX0_kernel_35 ?_
        refine k_bind hf (fun v2 hv2 hf => ?_)
        refine s_call (As := [.int (xI e1 13)]) (rest := []) S.1.1 (met_X0_ones hv2) wi_X0_ones q637 ⟨rfl, rfl⟩ ⟨Nat.le_of_ble_eq_true rfl, Nat.le_of_ble_eq_true rfl⟩ rfl hl.1 rfl (Nat.le_of_ble_eq_true rfl) dX0_kernel_38 hn.cs ?_
        refine lv_iconst (v := 2) hx hb dX0_kernel_41 (by decide) ?_
        refine lv_aload_n hx hb dX0_kernel_42 rfl (lv_at hl 0 rfl) ?_
        refine x_oget (k := 15) (v := .int (xI e1 15)) S hR (lk_X0_357 _ List.mem_cons_self) rfl dX0_kernel_43 ?_
        refine lv_imul hx hb dX0_kernel_46 ?_
        refine lv_icmp_le (tgt := 54) hx hb dX0_kernel_47 (by decide) (fun c_47 => ?_) (fun c_47 => ?_)
        · replace hf := o_t hf c_47
          refine lv_iconst (v := 0) hx hb dX0_kernel_54 (by decide) ?_
          exact wJX0_kernel_55 S hf _ _ _ _ _ hR hS hn (lv_sub (l' := [(0, .ref (xo E)), (2, .int x2)]) hl [0, 2] rfl)
        · replace hf := o_f hf c_47
          refine lv_iconst (v := 1) hx hb dX0_kernel_50 (by decide) ?_
          refine lv_goto (tgt := 55) hx hb dX0_kernel_51 (by decide) ?_
          exact wJX0_kernel_55 S hf _ _ _ _ _ hR hS hn (lv_sub (l' := [(0, .ref (xo E)), (2, .int x2)]) hl [0, 2] rfl)
    · replace hf := o_t hf c_16
      refine lv_bipush (v := -2) hx hb dX0_kernel_19 (by decide) ?_
      obtain rfl := Option.some.inj hf
      exact x_iret S hR hS hn rfl dX0_kernel_21

theorem lk_X0_45 : ∀ q ∈ ([(0, 11)] : List (Nat × Nat)), wLk RX0 45 q.1 q.2 := List.forall_mem_cons.mpr ⟨⟨RX0, TX0, 32, "LinesTouched", rfl, by decide, in_X0, q389, Or.inl rfl⟩, fun _ h => absurd h List.not_mem_nil⟩
theorem lk_X0_369 : ∀ q ∈ ([(2, 2)] : List (Nat × Nat)), wLkN RX0 369 q.1 q.2 := List.forall_mem_cons.mpr ⟨⟨RX2, TX2, 3, "LinesTouched", rfl, by decide, in_X2, q237⟩, fun _ h => absurd h List.not_mem_nil⟩
theorem lk_X0_366 : ∀ q ∈ ([(2, 1)] : List (Nat × Nat)), wLkN RX0 366 q.1 q.2 := List.forall_mem_cons.mpr ⟨⟨RX2, TX2, 3, "LinesTouched", rfl, by decide, in_X2, q235⟩, fun _ h => absurd h List.not_mem_nil⟩
theorem lk_X0_375 : ∀ q ∈ ([(2, 0)] : List (Nat × Nat)), wLkN RX0 375 q.1 q.2 := List.forall_mem_cons.mpr ⟨⟨RX2, TX2, 3, "LinesTouched", rfl, by decide, in_X2, q233⟩, fun _ h => absurd h List.not_mem_nil⟩
noncomputable def fX0_round (x1 : Int32) (x2 : Int32) (x3 : Int32) (σ : xS) : Option (Int32 × xS) :=
  if (fX0_in x1 (0 : Int32) (12 : Int32)) = (0 : Int32) then some ((-2 : Int32), σ) else if (fX0_in x3 (0 : Int32) (2 : Int32)) = (0 : Int32) then some ((-2 : Int32), σ) else (fX0_findsKernel x1 σ).bind (fun e1 => if (fX0_in x2 (0 : Int32) ((xI e1 12) - (1 : Int32))) = (0 : Int32) then some ((-2 : Int32), e1) else if x3 = (0 : Int32) then (xlr e1 3 x2).bind (fun v8 => (v8).bind (fun a9 => (xgI e1 [(2, 0)] a9).bind (fun v10 => some (v10, e1)))) else if x3 = (1 : Int32) then (xlr e1 3 x2).bind (fun v5 => (v5).bind (fun a6 => (xgI e1 [(2, 1)] a6).bind (fun v7 => some (v7, e1)))) else (xlr e1 3 x2).bind (fun v2 => (v2).bind (fun a3 => (xgI e1 [(2, 2)] a3).bind (fun v4 => some (v4, e1)))))
theorem wi_X0_round : wInfV yX0_round cX0_round 4 (Option.some Jvm.ClassFile.FieldType.int) 3 := ⟨q1553, q1554, q106, q1555, (by decide +kernel), (by decide +kernel), (by decide +kernel)⟩
set_option maxHeartbeats 4000000 in
set_option maxRecDepth 100000 in
theorem r0_X0_round {x1 : Int32} {x2 : Int32} {x3 : Int32} {σ : xS} {res : Int32 × xS} (hf : fX0_round x1 x2 x3 σ = some res) : rl0 σ res.2 := by
  replace hf : (if (fX0_in x1 (0 : Int32) (12 : Int32)) = (0 : Int32) then some ((-2 : Int32), σ) else if (fX0_in x3 (0 : Int32) (2 : Int32)) = (0 : Int32) then some ((-2 : Int32), σ) else (fX0_findsKernel x1 σ).bind (fun e1 => if (fX0_in x2 (0 : Int32) ((xI e1 12) - (1 : Int32))) = (0 : Int32) then some ((-2 : Int32), e1) else if x3 = (0 : Int32) then (xlr e1 3 x2).bind (fun v8 => (v8).bind (fun a9 => (xgI e1 [(2, 0)] a9).bind (fun v10 => some (v10, e1)))) else if x3 = (1 : Int32) then (xlr e1 3 x2).bind (fun v5 => (v5).bind (fun a6 => (xgI e1 [(2, 1)] a6).bind (fun v7 => some (v7, e1)))) else (xlr e1 3 x2).bind (fun v2 => (v2).bind (fun a3 => (xgI e1 [(2, 2)] a3).bind (fun v4 => some (v4, e1)))))) = some res := hf
  by_cases c0 : (fX0_in x1 (0 : Int32) (12 : Int32)) = (0 : Int32)
  · replace hf := o_t hf c0
    obtain rfl := Option.some.inj hf
    exact rl0.rf _
  · replace hf := o_f hf c0
    by_cases c0 : (fX0_in x3 (0 : Int32) (2 : Int32)) = (0 : Int32)
    · replace hf := o_t hf c0
      obtain rfl := Option.some.inj hf
      exact rl0.rf _
    · replace hf := o_f hf c0
      refine k_bind hf (fun e1 he1 hf => ?_)
      refine rl0.tr (r0_X0_findsKernel he1) ?_
      by_cases c0 : (fX0_in x2 (0 : Int32) ((xI e1 12) - (1 : Int32))) = (0 : Int32)
      · replace hf := o_t hf c0
        obtain rfl := Option.some.inj hf
        exact rl0.rf _
      · replace hf := o_f hf c0
        by_cases c0 : x3 = (0 : Int32)
        · replace hf := o_t hf c0
          refine k_bind hf (fun v8 hv8 hf => ?_)
          refine k_bind hf (fun a9 ha9 hf => ?_)
          refine k_bind hf (fun v10 hv10 hf => ?_)
          obtain rfl := Option.some.inj hf
          exact rl0.rf _
        · replace hf := o_f hf c0
          by_cases c0 : x3 = (1 : Int32)
          · replace hf := o_t hf c0
            refine k_bind hf (fun v5 hv5 hf => ?_)
            refine k_bind hf (fun a6 ha6 hf => ?_)
            refine k_bind hf (fun v7 hv7 hf => ?_)
            obtain rfl := Option.some.inj hf
            exact rl0.rf _
          · replace hf := o_f hf c0
            refine k_bind hf (fun v2 hv2 hf => ?_)
            refine k_bind hf (fun a3 ha3 hf => ?_)
            refine k_bind hf (fun v4 hv4 hf => ?_)
            obtain rfl := Option.some.inj hf
            exact rl0.rf _
set_option maxHeartbeats 4000000 in
set_option maxRecDepth 100000 in
theorem met_X0_round {l : Launch} {E : xG} {x1 : Int32} {x2 : Int32} {x3 : Int32} {σ : xS} {res : Int32 × xS} (hf : fX0_round x1 x2 x3 σ = some res) : xMet l yX0_round cX0_round 4 (Option.some Jvm.ClassFile.FieldType.int) 2 46 E [.ref (xo E), .int x1, .int x2, .int x3] σ (some (.int res.1)) res.2 := by
  replace hf : (if (fX0_in x1 (0 : Int32) (12 : Int32)) = (0 : Int32) then some ((-2 : Int32), σ) else if (fX0_in x3 (0 : Int32) (2 : Int32)) = (0 : Int32) then some ((-2 : Int32), σ) else (fX0_findsKernel x1 σ).bind (fun e1 => if (fX0_in x2 (0 : Int32) ((xI e1 12) - (1 : Int32))) = (0 : Int32) then some ((-2 : Int32), e1) else if x3 = (0 : Int32) then (xlr e1 3 x2).bind (fun v8 => (v8).bind (fun a9 => (xgI e1 [(2, 0)] a9).bind (fun v10 => some (v10, e1)))) else if x3 = (1 : Int32) then (xlr e1 3 x2).bind (fun v5 => (v5).bind (fun a6 => (xgI e1 [(2, 1)] a6).bind (fun v7 => some (v7, e1)))) else (xlr e1 3 x2).bind (fun v2 => (v2).bind (fun a3 => (xgI e1 [(2, 2)] a3).bind (fun v4 => some (v4, e1)))))) = some res := hf
  refine x_start (by decide) (Nat.le_of_ble_eq_true rfl) ?_
  intro p e s m args below meth c S hnm hR hS ls hl
  obtain ⟨hx, hb, hml, hown, hts⟩ := S.1.1
  have hl : lv_has ls 4 [(0, .ref (xo E)), (1, .int x1), (2, .int x2), (3, .int x3)] := hl
  have hn : XN 0 0 (xnx σ) (xns σ) (xnx res.2) (xns res.2) σ := ⟨Nat.zero_add _, Nat.zero_add _, (r0_X0_round (x1 := x1) (x2 := x2) (x3 := x3) (σ := σ) hf).le.1, (r0_X0_round (x1 := x1) (x2 := x2) (x3 := x3) (σ := σ) hf).le.2⟩
  refine lv_iload_n hx hb dX0_round_0 rfl (lv_at hl 1 rfl) ?_
  refine lv_iconst (v := 0) hx hb dX0_round_1 (by decide) ?_
  refine lv_bipush (v := 12) hx hb dX0_round_2 (by decide) ?_
  refine s_call (As := [.int x1, .int (0 : Int32), .int (12 : Int32)]) (rest := []) S.1.1 (met_X0_in rfl) wi_X0_in q479 ⟨rfl, rfl⟩ ⟨Nat.le_of_ble_eq_true rfl, Nat.le_of_ble_eq_true rfl⟩ rfl hl.1 rfl (Nat.le_of_ble_eq_true rfl) dX0_round_4 hn.cs ?_
  refine lv_if_eq (tgt := 19) hx hb dX0_round_7 (by decide) (fun c_7 => ?_) (fun c_7 => ?_)
  · replace hf := o_t hf c_7
    refine lv_bipush (v := -2) hx hb dX0_round_19 (by decide) ?_
    obtain rfl := Option.some.inj hf
    exact x_iret S hR hS hn rfl dX0_round_21
  · replace hf := o_f hf c_7
    refine lv_iload_n hx hb dX0_round_10 rfl (lv_at hl 3 rfl) ?_
    refine lv_iconst (v := 0) hx hb dX0_round_11 (by decide) ?_
    refine lv_iconst (v := 2) hx hb dX0_round_12 (by decide) ?_
    refine s_call (As := [.int x3, .int (0 : Int32), .int (2 : Int32)]) (rest := []) S.1.1 (met_X0_in rfl) wi_X0_in q479 ⟨rfl, rfl⟩ ⟨Nat.le_of_ble_eq_true rfl, Nat.le_of_ble_eq_true rfl⟩ rfl hl.1 rfl (Nat.le_of_ble_eq_true rfl) dX0_round_13 hn.cs ?_
    refine lv_if_ne (tgt := 22) hx hb dX0_round_16 (by decide) (fun c_16 => ?_) (fun c_16 => ?_)
    · replace hf := o_f hf c_16
      refine lv_aload_n hx hb dX0_round_22 rfl (lv_at hl 0 rfl) ?_
      refine lv_iload_n hx hb dX0_round_23 rfl (lv_at hl 1 rfl) ?_
      refine k_bind hf (fun e1 he1 hf => ?_)
      refine x_call (C := RX0) (As := [.int x1]) (rest := []) S hR hS hn (met_X0_findsKernel he1) (r0_X0_findsKernel he1).le (hn.b (r0_X0_findsKernel he1)) wi_X0_findsKernel (xrc S.2 hR (ci := 0) rfl (Or.inl ⟨rfl, rfl⟩)) rfl q1544 ⟨Nat.le_of_ble_eq_true rfl, Nat.le_of_ble_eq_true rfl⟩ rfl hl.1 rfl (Nat.le_of_ble_eq_true rfl) dX0_round_24 (fun H locs cells slots hR hS hn => ?_)
      refine lv_iload_n hx hb dX0_round_27 rfl (lv_at hl 2 rfl) ?_
      refine lv_iconst (v := 0) hx hb dX0_round_28 (by decide) ?_
      refine lv_aload_n hx hb dX0_round_29 rfl (lv_at hl 0 rfl) ?_
      refine x_oget (k := 12) (v := .int (xI e1 12)) S hR (lk_X0_360 _ List.mem_cons_self) rfl dX0_round_30 ?_
      refine lv_iconst (v := 1) hx hb dX0_round_33 (by decide) ?_
      refine lv_isub hx hb dX0_round_34 ?_
      refine s_call (As := [.int x2, .int (0 : Int32), .int ((xI e1 12) - (1 : Int32))]) (rest := []) S.1.1 (met_X0_in rfl) wi_X0_in q479 ⟨rfl, rfl⟩ ⟨Nat.le_of_ble_eq_true rfl, Nat.le_of_ble_eq_true rfl⟩ rfl hl.1 rfl (Nat.le_of_ble_eq_true rfl) dX0_round_35 hn.cs ?_
      refine lv_if_ne (tgt := 44) hx hb dX0_round_38 (by decide) (fun c_38 => ?_) (fun c_38 => ?_)
      · replace hf := o_f hf c_38
        refine lv_iload_n hx hb dX0_round_44 rfl (lv_at hl 3 rfl) ?_
        refine lv_if_ne (tgt := 60) hx hb dX0_round_45 (by decide) (fun c_45 => ?_) (fun c_45 => ?_)
        · replace hf := o_f hf c_45
          refine lv_iload_n hx hb dX0_round_60 rfl (lv_at hl 3 rfl) ?_
          refine lv_iconst (v := 1) hx hb dX0_round_61 (by decide) ?_
          refine lv_icmp_ne (tgt := 77) hx hb dX0_round_62 (by decide) (fun c_62 => ?_) (fun c_62 => ?_)
          · replace hf := o_f hf c_62
            refine lv_aload_n hx hb dX0_round_77 rfl (lv_at hl 0 rfl) ?_
            refine x_oget (k := 11) (v := .ref (xar E 3)) S hR (lk_X0_45 _ List.mem_cons_self) rfl dX0_round_78 ?_
            refine lv_iload_n hx hb dX0_round_81 rfl (lv_at hl 2 rfl) ?_
            refine k_bind hf (fun v2 hv2 hf => ?_)
            refine x_slr S hR hv2 dX0_round_82 ?_
            refine k_bind hf (fun a3 ha3 hf => ?_)
            rw [rf_some ha3]
            refine k_bind hf (fun v4 hv4 hf => ?_)
            refine x_getN S hR lk_X0_369 (xgI_g hv4) dX0_round_83 ?_
            obtain rfl := Option.some.inj hf
            exact x_iret S hR hS hn rfl dX0_round_86
          · replace hf := o_t hf c_62
            refine lv_aload_n hx hb dX0_round_65 rfl (lv_at hl 0 rfl) ?_
            refine x_oget (k := 11) (v := .ref (xar E 3)) S hR (lk_X0_45 _ List.mem_cons_self) rfl dX0_round_66 ?_
            refine lv_iload_n hx hb dX0_round_69 rfl (lv_at hl 2 rfl) ?_
            refine k_bind hf (fun v5 hv5 hf => ?_)
            refine x_slr S hR hv5 dX0_round_70 ?_
            refine k_bind hf (fun a6 ha6 hf => ?_)
            rw [rf_some ha6]
            refine k_bind hf (fun v7 hv7 hf => ?_)
            refine x_getN S hR lk_X0_366 (xgI_g hv7) dX0_round_71 ?_
            refine lv_goto (tgt := 86) hx hb dX0_round_74 (by decide) ?_
            obtain rfl := Option.some.inj hf
            exact x_iret S hR hS hn rfl dX0_round_86
        · replace hf := o_t hf c_45
          refine lv_aload_n hx hb dX0_round_48 rfl (lv_at hl 0 rfl) ?_
          refine x_oget (k := 11) (v := .ref (xar E 3)) S hR (lk_X0_45 _ List.mem_cons_self) rfl dX0_round_49 ?_
          refine lv_iload_n hx hb dX0_round_52 rfl (lv_at hl 2 rfl) ?_
          refine k_bind hf (fun v8 hv8 hf => ?_)
          refine x_slr S hR hv8 dX0_round_53 ?_
          refine k_bind hf (fun a9 ha9 hf => ?_)
          rw [rf_some ha9]
          refine k_bind hf (fun v10 hv10 hf => ?_)
          refine x_getN S hR lk_X0_375 (xgI_g hv10) dX0_round_54 ?_
          refine lv_goto (tgt := 86) hx hb dX0_round_57 (by decide) ?_
          obtain rfl := Option.some.inj hf
          exact x_iret S hR hS hn rfl dX0_round_86
      · replace hf := o_t hf c_38
        refine lv_bipush (v := -2) hx hb dX0_round_41 (by decide) ?_
        obtain rfl := Option.some.inj hf
        exact x_iret S hR hS hn rfl dX0_round_43
    · replace hf := o_t hf c_16
      refine lv_bipush (v := -2) hx hb dX0_round_19 (by decide) ?_
      obtain rfl := Option.some.inj hf
      exact x_iret S hR hS hn rfl dX0_round_21

theorem lk_X0_49 : ∀ q ∈ ([(0, 16)] : List (Nat × Nat)), wLk RX0 49 q.1 q.2 := List.forall_mem_cons.mpr ⟨⟨RX0, TX0, 32, "LinesTouched", rfl, by decide, in_X0, q394, Or.inl rfl⟩, fun _ h => absurd h List.not_mem_nil⟩
noncomputable def LX0_packOf_115 (y2 : Int32) (y3 : Int32) (y5 : Int32) (y6 : Int32) (σ : xS) (q : Int32 × Int32) : Option ((Int32 × Int32) ⊕ (Int32)) :=
  if q.2 = (0 : Int32) then some (Sum.inr q.1) else (xla 3 σ 4 (y6 &&& ((q.2 &&& (-q.2)) ^^^ (-1 : Int32)))).bind (fun v12 => (some (fJ6_max q.1 ((31 : Int32) + v12))).bind (fun v13 => (some (q.2 &&& (q.2 - (1 : Int32)))).bind (fun v14 => some (Sum.inl (v13, v14)))))
noncomputable def LX0_packOf_24 (y2 : Int32) (y3 : Int32) (σ : xS) (q : Int32 × Int32) : Option ((Int32 × Int32) ⊕ (Int32)) :=
  if (xN σ (0 : Fin 3) 2) ≤ q.2 then some (Sum.inr q.1) else (xla 1 σ 11 y2).bind (fun v5 => if (fX0_has (y3 &&& v5) q.2) = (0 : Int32) then some (Sum.inl (q.1, q.2 + (1 : Int32))) else (some (y3 &&& ((ish (1 : Int32) q.2) ^^^ (-1 : Int32)))).bind (fun v6 => (xla 3 σ 4 v6).bind (fun v7 => (some (fJ6_max q.1 ((15 : Int32) + v7))).bind (fun v8 => (xla 1 σ 11 y2).bind (fun v9 => (xla 1 σ 11 q.2).bind (fun v10 => (some (((v6 &&& v9) &&& v10) &&& (ish (-1 : Int32) q.2))).bind (fun v11 => (lpw (LX0_packOf_115 y2 y3 q.2 v6 σ) (v8, v11)).bind (fun b15 => some (Sum.inl (b15, q.2 + (1 : Int32)))))))))))
noncomputable def fX0_packOf (x1 : Int32) (σ : xS) : Option (Int32) :=
  (fX0_leastOf x1).bind (fun v1 => (some (x1 &&& (x1 - (1 : Int32)))).bind (fun v2 => (xla 3 σ 4 v2).bind (fun v3 => (some (v1 + (1 : Int32))).bind (fun v4 => (lpw (LX0_packOf_24 v1 v2 σ) (v3, v4)).bind (fun b16 => some b16)))))
theorem wi_X0_packOf : wInfV yX0_packOf cX0_packOf 8 (Option.some Jvm.ClassFile.FieldType.int) 1 := ⟨q1562, qs26, q106, q1563, (by decide +kernel), (by decide +kernel), (by decide +kernel)⟩
set_option maxHeartbeats 4000000 in
set_option maxRecDepth 100000 in
theorem wbLX0_packOf_115 {l : Launch} {E : xG} {p : Program} {e : Env} {s : State} {m : MethodId} {args : Array Value} {below : List Frame} {meth : Method} {c : Code} {Q : State → Prop} {n0 s0 nf sf : Nat} {y2 : Int32} {y3 : Int32} {y5 : Int32} {y6 : Int32} {σ : xS} {q : Int32 × Int32} {res : (Int32 × Int32) ⊕ (Int32)} (S : xSt E RX0 p m c cX0_packOf 8 s args meth (Option.some Jvm.ClassFile.FieldType.int)) (hf : LX0_packOf_115 y2 y3 y5 y6 σ q = some res) (hK : ∀ q, res = Sum.inl q → (∀ (H : Heap) (locs : List Loc) (cells slots : Nat) (ls : Array Slot), xR E σ H → va_S (xAA E) s.heap H locs → XN cells slots n0 s0 nf sf σ → lv_has ls 8 [(0, .ref (xo E)), (2, .int y2), (3, .int y3), (4, .int q.1), (5, .int y5), (6, .int y6), (7, .int q.2)] → W p l e (xRm 2 41 (nf - n0) (sf - s0)) s m args below meth c H locs cells slots Q (F0 m 115 ls []))) (hE158 : ∀ b, res = Sum.inr b → (∀ (H : Heap) (locs : List Loc) (cells slots : Nat) (ls : Array Slot), xR E σ H → va_S (xAA E) s.heap H locs → XN cells slots n0 s0 nf sf σ → lv_has ls 8 [(0, .ref (xo E)), (2, .int y2), (3, .int y3), (4, .int b), (5, .int y5)] → W p l e (xRm 2 41 (nf - n0) (sf - s0)) s m args below meth c H locs cells slots Q (F0 m 158 ls []))) : (∀ (H : Heap) (locs : List Loc) (cells slots : Nat) (ls : Array Slot), xR E σ H → va_S (xAA E) s.heap H locs → XN cells slots n0 s0 nf sf σ → lv_has ls 8 [(0, .ref (xo E)), (2, .int y2), (3, .int y3), (4, .int q.1), (5, .int y5), (6, .int y6), (7, .int q.2)] → W p l e (xRm 2 41 (nf - n0) (sf - s0)) s m args below meth c H locs cells slots Q (F0 m 115 ls [])) := by
  replace hf : (if q.2 = (0 : Int32) then some (Sum.inr q.1) else (xla 3 σ 4 (y6 &&& ((q.2 &&& (-q.2)) ^^^ (-1 : Int32)))).bind (fun v12 => (some (fJ6_max q.1 ((31 : Int32) + v12))).bind (fun v13 => (some (q.2 &&& (q.2 - (1 : Int32)))).bind (fun v14 => some (Sum.inl (v13, v14)))))) = some res := hf
  obtain ⟨hx, hb, hml, hown, hts⟩ := S.1.1
  intro H locs cells slots ls hR hS hn hl
  refine lv_iload hx hb dX0_packOf_115 (lv_at hl 6 rfl) ?_
  refine lv_if_eq (tgt := 158) hx hb dX0_packOf_117 (by decide) (fun c_117 => ?_) (fun c_117 => ?_)
  · replace hf := o_t hf c_117
    exact hE158 _ (Option.some.inj hf).symm _ _ _ _ _ hR hS hn (lv_sub (l' := [(0, .ref (xo E)), (2, .int y2), (3, .int y3), (4, .int q.1), (5, .int y5)]) hl [0, 1, 2, 3, 4] rfl)
  · replace hf := o_f hf c_117
    refine lv_iload hx hb dX0_packOf_120 (lv_at hl 3 rfl) ?_
    refine lv_bipush (v := 31) hx hb dX0_packOf_122 (by decide) ?_
    refine lv_aload_n hx hb dX0_packOf_124 rfl (lv_at hl 0 rfl) ?_
    refine x_oget (k := 16) (v := .ref (xar E 4)) S hR (lk_X0_49 _ List.mem_cons_self) rfl dX0_packOf_125 ?_
    refine lv_iload hx hb dX0_packOf_128 (lv_at hl 5 rfl) ?_
    refine lv_iload hx hb dX0_packOf_130 (lv_at hl 6 rfl) ?_
    refine lv_iload hx hb dX0_packOf_132 (lv_at hl 6 rfl) ?_
    refine lv_ineg hx hb dX0_packOf_134 ?_
    refine lv_iand hx hb dX0_packOf_135 ?_
    refine lv_iconst (v := -1) hx hb dX0_packOf_136 (by decide) ?_
    refine lv_ixor hx hb dX0_packOf_137 ?_
    refine lv_iand hx hb dX0_packOf_138 ?_
    refine k_bind hf (fun v12 hv12 hf => ?_)
    refine x_sl3 S hR hv12 dX0_packOf_139 ?_
    refine lv_iadd hx hb dX0_packOf_140 ?_
    refine s_call (As := [.int q.1, .int ((31 : Int32) + v12)]) (rest := []) S.1.1 (met_J6_max rfl) wi_J6_max q1480 ⟨rfl, rfl⟩ ⟨Nat.le_of_ble_eq_true rfl, Nat.le_of_ble_eq_true rfl⟩ rfl hl.1 rfl (Nat.le_of_ble_eq_true rfl) dX0_packOf_141 hn.cs ?_
    refine k_bind hf (fun v13 hv13 hf => ?_)
    refine m_nmi hv13 ?_
    refine lv_istore (lv' := [(4, .int v13), (0, .ref (xo E)), (2, .int y2), (3, .int y3), (5, .int y5), (6, .int y6), (7, .int q.2)]) hx hb dX0_packOf_144 hl (by decide) rfl (fun ls hl => ?_)
    refine lv_iload hx hb dX0_packOf_146 (lv_at hl 6 rfl) ?_
    refine lv_iload hx hb dX0_packOf_148 (lv_at hl 6 rfl) ?_
    refine lv_iconst (v := 1) hx hb dX0_packOf_150 (by decide) ?_
    refine lv_isub hx hb dX0_packOf_151 ?_
    refine lv_iand hx hb dX0_packOf_152 ?_
    refine k_bind hf (fun v14 hv14 hf => ?_)
    refine m_nmi hv14 ?_
    refine lv_istore (lv' := [(7, .int v14), (4, .int v13), (0, .ref (xo E)), (2, .int y2), (3, .int y3), (5, .int y5), (6, .int y6)]) hx hb dX0_packOf_153 hl (by decide) rfl (fun ls hl => ?_)
    refine lv_goto (tgt := 115) hx hb dX0_packOf_155 (by decide) ?_
    exact hK _ (Option.some.inj hf).symm _ _ _ _ _ hR hS hn (lv_sub (l' := [(0, .ref (xo E)), (2, .int y2), (3, .int y3), (4, .int v13), (5, .int y5), (6, .int y6), (7, .int v14)]) hl [2, 3, 4, 1, 5, 6, 0] rfl)
set_option maxHeartbeats 4000000 in
set_option maxRecDepth 100000 in
theorem wLX0_packOf_115 {l : Launch} {E : xG} {p : Program} {e : Env} {s : State} {m : MethodId} {args : Array Value} {below : List Frame} {meth : Method} {c : Code} {Q : State → Prop} {n0 s0 nf sf : Nat} {y2 : Int32} {y3 : Int32} {y5 : Int32} {y6 : Int32} {σ : xS} {q : Int32 × Int32} {res : Int32} (S : xSt E RX0 p m c cX0_packOf 8 s args meth (Option.some Jvm.ClassFile.FieldType.int)) (h : lpw (LX0_packOf_115 y2 y3 y5 y6 σ) q = some res) (hE158 : ∀ b, res = b → (∀ (H : Heap) (locs : List Loc) (cells slots : Nat) (ls : Array Slot), xR E σ H → va_S (xAA E) s.heap H locs → XN cells slots n0 s0 nf sf σ → lv_has ls 8 [(0, .ref (xo E)), (2, .int y2), (3, .int y3), (4, .int b), (5, .int y5)] → W p l e (xRm 2 41 (nf - n0) (sf - s0)) s m args below meth c H locs cells slots Q (F0 m 158 ls []))) : (∀ (H : Heap) (locs : List Loc) (cells slots : Nat) (ls : Array Slot), xR E σ H → va_S (xAA E) s.heap H locs → XN cells slots n0 s0 nf sf σ → lv_has ls 8 [(0, .ref (xo E)), (2, .int y2), (3, .int y3), (4, .int q.1), (5, .int y5), (6, .int y6), (7, .int q.2)] → W p l e (xRm 2 41 (nf - n0) (sf - s0)) s m args below meth c H locs cells slots Q (F0 m 115 ls [])) :=
  lpw_go _ (fun q => (∀ (H : Heap) (locs : List Loc) (cells slots : Nat) (ls : Array Slot), xR E σ H → va_S (xAA E) s.heap H locs → XN cells slots n0 s0 nf sf σ → lv_has ls 8 [(0, .ref (xo E)), (2, .int y2), (3, .int y3), (4, .int q.1), (5, .int y5), (6, .int y6), (7, .int q.2)] → W p l e (xRm 2 41 (nf - n0) (sf - s0)) s m args below meth c H locs cells slots Q (F0 m 115 ls []))) (fun b0 => (∀ b, b0 = b → (∀ (H : Heap) (locs : List Loc) (cells slots : Nat) (ls : Array Slot), xR E σ H → va_S (xAA E) s.heap H locs → XN cells slots n0 s0 nf sf σ → lv_has ls 8 [(0, .ref (xo E)), (2, .int y2), (3, .int y3), (4, .int b), (5, .int y5)] → W p l e (xRm 2 41 (nf - n0) (sf - s0)) s m args below meth c H locs cells slots Q (F0 m 158 ls [])))) (fun q x hf hK hX => wbLX0_packOf_115 S hf hK (fun b eb => (hX _ eb) b rfl)) q res h hE158
set_option maxHeartbeats 4000000 in
set_option maxRecDepth 100000 in
theorem wbLX0_packOf_24 {l : Launch} {E : xG} {p : Program} {e : Env} {s : State} {m : MethodId} {args : Array Value} {below : List Frame} {meth : Method} {c : Code} {Q : State → Prop} {n0 s0 nf sf : Nat} {y2 : Int32} {y3 : Int32} {σ : xS} {q : Int32 × Int32} {res : (Int32 × Int32) ⊕ (Int32)} (S : xSt E RX0 p m c cX0_packOf 8 s args meth (Option.some Jvm.ClassFile.FieldType.int)) (hf : LX0_packOf_24 y2 y3 σ q = some res) (hK : ∀ q, res = Sum.inl q → (∀ (H : Heap) (locs : List Loc) (cells slots : Nat) (ls : Array Slot), xR E σ H → va_S (xAA E) s.heap H locs → XN cells slots n0 s0 nf sf σ → lv_has ls 8 [(0, .ref (xo E)), (2, .int y2), (3, .int y3), (4, .int q.1), (5, .int q.2)] → W p l e (xRm 2 41 (nf - n0) (sf - s0)) s m args below meth c H locs cells slots Q (F0 m 24 ls []))) (hE164 : ∀ b, res = Sum.inr b → (∀ (H : Heap) (locs : List Loc) (cells slots : Nat) (ls : Array Slot), xR E σ H → va_S (xAA E) s.heap H locs → XN cells slots n0 s0 nf sf σ → lv_has ls 8 [(4, .int b)] → W p l e (xRm 2 41 (nf - n0) (sf - s0)) s m args below meth c H locs cells slots Q (F0 m 164 ls []))) : (∀ (H : Heap) (locs : List Loc) (cells slots : Nat) (ls : Array Slot), xR E σ H → va_S (xAA E) s.heap H locs → XN cells slots n0 s0 nf sf σ → lv_has ls 8 [(0, .ref (xo E)), (2, .int y2), (3, .int y3), (4, .int q.1), (5, .int q.2)] → W p l e (xRm 2 41 (nf - n0) (sf - s0)) s m args below meth c H locs cells slots Q (F0 m 24 ls [])) := by
  replace hf : (if (xN σ (0 : Fin 3) 2) ≤ q.2 then some (Sum.inr q.1) else (xla 1 σ 11 y2).bind (fun v5 => if (fX0_has (y3 &&& v5) q.2) = (0 : Int32) then some (Sum.inl (q.1, q.2 + (1 : Int32))) else (some (y3 &&& ((ish (1 : Int32) q.2) ^^^ (-1 : Int32)))).bind (fun v6 => (xla 3 σ 4 v6).bind (fun v7 => (some (fJ6_max q.1 ((15 : Int32) + v7))).bind (fun v8 => (xla 1 σ 11 y2).bind (fun v9 => (xla 1 σ 11 q.2).bind (fun v10 => (some (((v6 &&& v9) &&& v10) &&& (ish (-1 : Int32) q.2))).bind (fun v11 => (lpw (LX0_packOf_115 y2 y3 q.2 v6 σ) (v8, v11)).bind (fun b15 => some (Sum.inl (b15, q.2 + (1 : Int32)))))))))))) = some res := hf
  obtain ⟨hx, hb, hml, hown, hts⟩ := S.1.1
  intro H locs cells slots ls hR hS hn hl
  refine lv_iload hx hb dX0_packOf_24 (lv_at hl 4 rfl) ?_
  refine lv_aload_n hx hb dX0_packOf_26 rfl (lv_at hl 0 rfl) ?_
  refine x_oget (k := 0) (v := .ref (xnt E (0 : Fin 3))) S hR (lk_X0_10 _ List.mem_cons_self) rfl dX0_packOf_27 ?_
  refine x_ngetN (j := (0 : Fin 3)) (k := 2) (v := .int (xN σ (0 : Fin 3) 2)) S hR (lk_X0_115 _ List.mem_cons_self) rfl dX0_packOf_30 ?_
  refine lv_icmp_ge (tgt := 164) hx hb dX0_packOf_33 (by decide) (fun c_33 => ?_) (fun c_33 => ?_)
  · replace hf := o_t hf c_33
    exact hE164 _ (Option.some.inj hf).symm _ _ _ _ _ hR hS hn (lv_sub (l' := [(4, .int q.1)]) hl [3] rfl)
  · replace hf := o_f hf c_33
    refine lv_iload_n hx hb dX0_packOf_36 rfl (lv_at hl 2 rfl) ?_
    refine lv_aload_n hx hb dX0_packOf_37 rfl (lv_at hl 0 rfl) ?_
    refine x_oget (k := 0) (v := .ref (xnt E (0 : Fin 3))) S hR (lk_X0_10 _ List.mem_cons_self) rfl dX0_packOf_38 ?_
    refine x_ngetN (j := (0 : Fin 3)) (k := 1) (v := .ref (xar E 11)) S hR (lk_X0_152 _ List.mem_cons_self) rfl dX0_packOf_41 ?_
    refine lv_iload_n hx hb dX0_packOf_44 rfl (lv_at hl 1 rfl) ?_
    refine k_bind hf (fun v5 hv5 hf => ?_)
    refine x_sl1 S hR hv5 dX0_packOf_45 ?_
    refine lv_iand hx hb dX0_packOf_46 ?_
    refine lv_iload hx hb dX0_packOf_47 (lv_at hl 4 rfl) ?_
    refine s_call (As := [.int (y3 &&& v5), .int q.2]) (rest := []) S.1.1 (met_X0_has rfl) wi_X0_has q210 ⟨rfl, rfl⟩ ⟨Nat.le_of_ble_eq_true rfl, Nat.le_of_ble_eq_true rfl⟩ rfl hl.1 rfl (Nat.le_of_ble_eq_true rfl) dX0_packOf_49 hn.cs ?_
    refine lv_if_ne (tgt := 58) hx hb dX0_packOf_52 (by decide) (fun c_52 => ?_) (fun c_52 => ?_)
    · replace hf := o_f hf c_52
      refine lv_iload_n hx hb dX0_packOf_58 rfl (lv_at hl 2 rfl) ?_
      refine lv_iconst (v := 1) hx hb dX0_packOf_59 (by decide) ?_
      refine lv_iload hx hb dX0_packOf_60 (lv_at hl 4 rfl) ?_
      refine lv_ishl hx hb dX0_packOf_62 ?_
      refine lv_iconst (v := -1) hx hb dX0_packOf_63 (by decide) ?_
      refine lv_ixor hx hb dX0_packOf_64 ?_
      refine lv_iand hx hb dX0_packOf_65 ?_
      refine k_bind hf (fun v6 hv6 hf => ?_)
      refine m_nmi hv6 ?_
      refine lv_istore (lv' := [(6, .int v6), (0, .ref (xo E)), (2, .int y2), (3, .int y3), (4, .int q.1), (5, .int q.2)]) hx hb dX0_packOf_66 hl (by decide) rfl (fun ls hl => ?_)
      refine lv_iload hx hb dX0_packOf_68 (lv_at hl 4 rfl) ?_
      refine lv_bipush (v := 15) hx hb dX0_packOf_70 (by decide) ?_
      refine lv_aload_n hx hb dX0_packOf_72 rfl (lv_at hl 1 rfl) ?_
      refine x_oget (k := 16) (v := .ref (xar E 4)) S hR (lk_X0_49 _ List.mem_cons_self) rfl dX0_packOf_73 ?_
      refine lv_iload hx hb dX0_packOf_76 (lv_at hl 0 rfl) ?_
      refine k_bind hf (fun v7 hv7 hf => ?_)
      refine x_sl3 S hR hv7 dX0_packOf_78 ?_
      refine lv_iadd hx hb dX0_packOf_79 ?_
      refine s_call (As := [.int q.1, .int ((15 : Int32) + v7)]) (rest := []) S.1.1 (met_J6_max rfl) wi_J6_max q1480 ⟨rfl, rfl⟩ ⟨Nat.le_of_ble_eq_true rfl, Nat.le_of_ble_eq_true rfl⟩ rfl hl.1 rfl (Nat.le_of_ble_eq_true rfl) dX0_packOf_80 hn.cs ?_
      refine k_bind hf (fun v8 hv8 hf => ?_)
      refine m_nmi hv8 ?_
      refine lv_istore (lv' := [(4, .int v8), (6, .int v6), (0, .ref (xo E)), (2, .int y2), (3, .int y3), (5, .int q.2)]) hx hb dX0_packOf_83 hl (by decide) rfl (fun ls hl => ?_)
      refine lv_iload hx hb dX0_packOf_85 (lv_at hl 1 rfl) ?_
      refine lv_aload_n hx hb dX0_packOf_87 rfl (lv_at hl 2 rfl) ?_
      refine x_oget (k := 0) (v := .ref (xnt E (0 : Fin 3))) S hR (lk_X0_10 _ List.mem_cons_self) rfl dX0_packOf_88 ?_
      refine x_ngetN (j := (0 : Fin 3)) (k := 1) (v := .ref (xar E 11)) S hR (lk_X0_152 _ List.mem_cons_self) rfl dX0_packOf_91 ?_
      refine lv_iload_n hx hb dX0_packOf_94 rfl (lv_at hl 3 rfl) ?_
      refine k_bind hf (fun v9 hv9 hf => ?_)
      refine x_sl1 S hR hv9 dX0_packOf_95 ?_
      refine lv_iand hx hb dX0_packOf_96 ?_
      refine lv_aload_n hx hb dX0_packOf_97 rfl (lv_at hl 2 rfl) ?_
      refine x_oget (k := 0) (v := .ref (xnt E (0 : Fin 3))) S hR (lk_X0_10 _ List.mem_cons_self) rfl dX0_packOf_98 ?_
      refine x_ngetN (j := (0 : Fin 3)) (k := 1) (v := .ref (xar E 11)) S hR (lk_X0_152 _ List.mem_cons_self) rfl dX0_packOf_101 ?_
      refine lv_iload hx hb dX0_packOf_104 (lv_at hl 5 rfl) ?_
      refine k_bind hf (fun v10 hv10 hf => ?_)
      refine x_sl1 S hR hv10 dX0_packOf_106 ?_
      refine lv_iand hx hb dX0_packOf_107 ?_
      refine lv_iconst (v := -1) hx hb dX0_packOf_108 (by decide) ?_
      refine lv_iload hx hb dX0_packOf_109 (lv_at hl 5 rfl) ?_
      refine lv_ishl hx hb dX0_packOf_111 ?_
      refine lv_iand hx hb dX0_packOf_112 ?_
      refine k_bind hf (fun v11 hv11 hf => ?_)
      refine m_nmi hv11 ?_
      refine lv_istore (lv' := [(7, .int v11), (4, .int v8), (6, .int v6), (0, .ref (xo E)), (2, .int y2), (3, .int y3), (5, .int q.2)]) hx hb dX0_packOf_113 hl (by decide) rfl (fun ls hl => ?_)
      refine k_bind hf (fun b15 hb15 hf => ?_)
      refine wLX0_packOf_115 S hb15 ?_ _ _ _ _ _ hR hS hn (lv_sub (l' := [(0, .ref (xo E)), (2, .int y2), (3, .int y3), (4, .int v8), (5, .int q.2), (6, .int v6), (7, .int v11)]) hl [3, 4, 5, 1, 6, 2, 0] rfl)
      · intro b eb; subst eb; intro H locs cells slots ls hR hS hn hl
        refine lv_iinc (lv' := [(5, .int (q.2 + (1 : Int32))), (0, .ref (xo E)), (2, .int y2), (3, .int y3), (4, .int b15)]) hx hb dX0_packOf_158 hl (k := 4) rfl (m_inc (by decide)) (by decide) rfl (fun ls hl => ?_)
        refine lv_goto (tgt := 24) hx hb dX0_packOf_161 (by decide) ?_
        exact hK _ (Option.some.inj hf).symm _ _ _ _ _ hR hS hn (lv_sub (l' := [(0, .ref (xo E)), (2, .int y2), (3, .int y3), (4, .int b15), (5, .int (q.2 + (1 : Int32)))]) hl [1, 2, 3, 4, 0] rfl)
    · replace hf := o_t hf c_52
      refine lv_goto (tgt := 158) hx hb dX0_packOf_55 (by decide) ?_
      refine lv_iinc (lv' := [(5, .int (q.2 + (1 : Int32))), (0, .ref (xo E)), (2, .int y2), (3, .int y3), (4, .int q.1)]) hx hb dX0_packOf_158 hl (k := 4) rfl (m_inc (by decide)) (by decide) rfl (fun ls hl => ?_)
      refine lv_goto (tgt := 24) hx hb dX0_packOf_161 (by decide) ?_
      exact hK _ (Option.some.inj hf).symm _ _ _ _ _ hR hS hn (lv_sub (l' := [(0, .ref (xo E)), (2, .int y2), (3, .int y3), (4, .int q.1), (5, .int (q.2 + (1 : Int32)))]) hl [1, 2, 3, 4, 0] rfl)
set_option maxHeartbeats 4000000 in
set_option maxRecDepth 100000 in
theorem wLX0_packOf_24 {l : Launch} {E : xG} {p : Program} {e : Env} {s : State} {m : MethodId} {args : Array Value} {below : List Frame} {meth : Method} {c : Code} {Q : State → Prop} {n0 s0 nf sf : Nat} {y2 : Int32} {y3 : Int32} {σ : xS} {q : Int32 × Int32} {res : Int32} (S : xSt E RX0 p m c cX0_packOf 8 s args meth (Option.some Jvm.ClassFile.FieldType.int)) (h : lpw (LX0_packOf_24 y2 y3 σ) q = some res) (hE164 : ∀ b, res = b → (∀ (H : Heap) (locs : List Loc) (cells slots : Nat) (ls : Array Slot), xR E σ H → va_S (xAA E) s.heap H locs → XN cells slots n0 s0 nf sf σ → lv_has ls 8 [(4, .int b)] → W p l e (xRm 2 41 (nf - n0) (sf - s0)) s m args below meth c H locs cells slots Q (F0 m 164 ls []))) : (∀ (H : Heap) (locs : List Loc) (cells slots : Nat) (ls : Array Slot), xR E σ H → va_S (xAA E) s.heap H locs → XN cells slots n0 s0 nf sf σ → lv_has ls 8 [(0, .ref (xo E)), (2, .int y2), (3, .int y3), (4, .int q.1), (5, .int q.2)] → W p l e (xRm 2 41 (nf - n0) (sf - s0)) s m args below meth c H locs cells slots Q (F0 m 24 ls [])) :=
  lpw_go _ (fun q => (∀ (H : Heap) (locs : List Loc) (cells slots : Nat) (ls : Array Slot), xR E σ H → va_S (xAA E) s.heap H locs → XN cells slots n0 s0 nf sf σ → lv_has ls 8 [(0, .ref (xo E)), (2, .int y2), (3, .int y3), (4, .int q.1), (5, .int q.2)] → W p l e (xRm 2 41 (nf - n0) (sf - s0)) s m args below meth c H locs cells slots Q (F0 m 24 ls []))) (fun b0 => (∀ b, b0 = b → (∀ (H : Heap) (locs : List Loc) (cells slots : Nat) (ls : Array Slot), xR E σ H → va_S (xAA E) s.heap H locs → XN cells slots n0 s0 nf sf σ → lv_has ls 8 [(4, .int b)] → W p l e (xRm 2 41 (nf - n0) (sf - s0)) s m args below meth c H locs cells slots Q (F0 m 164 ls [])))) (fun q x hf hK hX => wbLX0_packOf_24 S hf hK (fun b eb => (hX _ eb) b rfl)) q res h hE164
set_option maxHeartbeats 4000000 in
set_option maxRecDepth 100000 in
theorem met_X0_packOf {l : Launch} {E : xG} {x1 : Int32} {σ : xS} {res : Int32} (hf : fX0_packOf x1 σ = some res) : xMet l yX0_packOf cX0_packOf 8 (Option.some Jvm.ClassFile.FieldType.int) 2 41 E [.ref (xo E), .int x1] σ (some (.int res)) σ := by
  replace hf : ((fX0_leastOf x1).bind (fun v1 => (some (x1 &&& (x1 - (1 : Int32)))).bind (fun v2 => (xla 3 σ 4 v2).bind (fun v3 => (some (v1 + (1 : Int32))).bind (fun v4 => (lpw (LX0_packOf_24 v1 v2 σ) (v3, v4)).bind (fun b16 => some b16)))))) = some res := hf
  refine x_start (by decide) (Nat.le_of_ble_eq_true rfl) ?_
  intro p e s m args below meth c S hnm hR hS ls hl
  obtain ⟨hx, hb, hml, hown, hts⟩ := S.1.1
  have hl : lv_has ls 8 [(0, .ref (xo E)), (1, .int x1)] := hl
  have hn : XN 0 0 (xnx σ) (xns σ) (xnx σ) (xns σ) σ := ⟨Nat.zero_add _, Nat.zero_add _, (rl1.rf σ).1, (rl1.rf σ).2⟩
  refine lv_iload_n hx hb dX0_packOf_0 rfl (lv_at hl 1 rfl) ?_
  refine k_bind hf (fun v1 hv1 hf => ?_)
  refine s_call (As := [.int x1]) (rest := []) S.1.1 (met_X0_leastOf hv1) wi_X0_leastOf q282 ⟨rfl, rfl⟩ ⟨Nat.le_of_ble_eq_true rfl, Nat.le_of_ble_eq_true rfl⟩ rfl hl.1 rfl (Nat.le_of_ble_eq_true rfl) dX0_packOf_1 hn.cs ?_
  refine lv_istore_n (lv' := [(2, .int v1), (0, .ref (xo E)), (1, .int x1)]) hx hb dX0_packOf_4 rfl hl (by decide) rfl (fun ls hl => ?_)
  refine lv_iload_n hx hb dX0_packOf_5 rfl (lv_at hl 2 rfl) ?_
  refine lv_iload_n hx hb dX0_packOf_6 rfl (lv_at hl 2 rfl) ?_
  refine lv_iconst (v := 1) hx hb dX0_packOf_7 (by decide) ?_
  refine lv_isub hx hb dX0_packOf_8 ?_
  refine lv_iand hx hb dX0_packOf_9 ?_
  refine k_bind hf (fun v2 hv2 hf => ?_)
  refine m_nmi hv2 ?_
  refine lv_istore_n (lv' := [(3, .int v2), (2, .int v1), (0, .ref (xo E)), (1, .int x1)]) hx hb dX0_packOf_10 rfl hl (by decide) rfl (fun ls hl => ?_)
  refine lv_aload_n hx hb dX0_packOf_11 rfl (lv_at hl 2 rfl) ?_
  refine x_oget (k := 16) (v := .ref (xar E 4)) S hR (lk_X0_49 _ List.mem_cons_self) rfl dX0_packOf_12 ?_
  refine lv_iload_n hx hb dX0_packOf_15 rfl (lv_at hl 0 rfl) ?_
  refine k_bind hf (fun v3 hv3 hf => ?_)
  refine x_sl3 S hR hv3 dX0_packOf_16 ?_
  refine lv_istore (lv' := [(4, .int v3), (3, .int v2), (2, .int v1), (0, .ref (xo E)), (1, .int x1)]) hx hb dX0_packOf_17 hl (by decide) rfl (fun ls hl => ?_)
  refine lv_iload_n hx hb dX0_packOf_19 rfl (lv_at hl 2 rfl) ?_
  refine lv_iconst (v := 1) hx hb dX0_packOf_20 (by decide) ?_
  refine lv_iadd hx hb dX0_packOf_21 ?_
  refine k_bind hf (fun v4 hv4 hf => ?_)
  refine m_nmi hv4 ?_
  refine lv_istore (lv' := [(5, .int v4), (4, .int v3), (3, .int v2), (2, .int v1), (0, .ref (xo E)), (1, .int x1)]) hx hb dX0_packOf_22 hl (by decide) rfl (fun ls hl => ?_)
  refine k_bind hf (fun b16 hb16 hf => ?_)
  refine wLX0_packOf_24 S hb16 ?_ _ _ _ _ _ hR hS hn (lv_sub (l' := [(0, .ref (xo E)), (2, .int v1), (3, .int v2), (4, .int v3), (5, .int v4)]) hl [4, 3, 2, 1, 0] rfl)
  · intro b eb; subst eb; intro H locs cells slots ls hR hS hn hl
    refine lv_iload hx hb dX0_packOf_164 (lv_at hl 0 rfl) ?_
    obtain rfl := Option.some.inj hf
    exact x_iret S hR hS hn rfl dX0_packOf_166


noncomputable def LX0_pack_14 (y1 : Int32) (q : Int32 × xS) : Option ((Int32 × xS) ⊕ (xS)) :=
  (fX1_all (0 : Fin 3) q.2).bind (fun v1 => if v1 < q.1 then some (Sum.inr q.2) else (fX0_packOf q.1 q.2).bind (fun v2 => (xsa 3 q.2 4 q.1 v2.toInt16.toInt32).bind (fun σ3 => some (Sum.inl (q.1 + (1 : Int32), σ3)))))
noncomputable def fX0_pack (x1 : Int32) (σ : xS) : Option (Int32 × xS) :=
  if (fX0_in x1 (0 : Int32) (1 : Int32)) = (0 : Int32) then some ((-2 : Int32), σ) else (lpw (LX0_pack_14 x1) ((1 : Int32), σ)).bind (fun b4 => (fX1_all (0 : Fin 3) b4).bind (fun v5 => (xla 3 b4 4 v5).bind (fun v6 => (some ((v6 + (15 : Int32)) / (16 : Int32))).bind (fun v7 => if x1 = (0 : Int32) then some (v7, b4) else some ((((16 : Int32) * v7) - v6), b4)))))
theorem wi_X0_pack : wInfV yX0_pack cX0_pack 4 (Option.some Jvm.ClassFile.FieldType.int) 1 := ⟨q1557, q1558, q106, q1559, (by decide +kernel), (by decide +kernel), (by decide +kernel)⟩
set_option maxHeartbeats 4000000 in
set_option maxRecDepth 100000 in
theorem rsLX0_pack_14 {y1 : Int32} {q : Int32 × xS} {res : (Int32 × xS) ⊕ (xS)} (hf : LX0_pack_14 y1 q = some res) : rl0 q.2 (Sum.elim (fun q => q.2) (fun b => b) res) := by
  replace hf : ((fX1_all (0 : Fin 3) q.2).bind (fun v1 => if v1 < q.1 then some (Sum.inr q.2) else (fX0_packOf q.1 q.2).bind (fun v2 => (xsa 3 q.2 4 q.1 v2.toInt16.toInt32).bind (fun σ3 => some (Sum.inl (q.1 + (1 : Int32), σ3)))))) = some res := hf
  refine k_bind hf (fun v1 hv1 hf => ?_)
  by_cases c0 : v1 < q.1
  · replace hf := o_t hf c0
    obtain rfl := Option.some.inj hf
    exact rl0.rf _
  · replace hf := o_f hf c0
    refine k_bind hf (fun v2 hv2 hf => ?_)
    refine k_bind hf (fun σ3 hσ3 hf => ?_)
    refine rl0.tr (r0_sa hσ3) ?_
    obtain rfl := Option.some.inj hf
    exact rl0.rf _
set_option maxHeartbeats 4000000 in
set_option maxRecDepth 100000 in
theorem rLX0_pack_14 {y1 : Int32} {q : Int32 × xS} {b : xS} (h : lpw (LX0_pack_14 y1) q = some b) : rl0 q.2 ((fun b => b) b) :=
  lpw_rel _ (fun q => q.2) (fun b => b) rl0 rl0.tr (fun _ _ hf => rsLX0_pack_14 hf) h
set_option maxHeartbeats 4000000 in
set_option maxRecDepth 100000 in
theorem r0_X0_pack {x1 : Int32} {σ : xS} {res : Int32 × xS} (hf : fX0_pack x1 σ = some res) : rl0 σ res.2 := by
  replace hf : (if (fX0_in x1 (0 : Int32) (1 : Int32)) = (0 : Int32) then some ((-2 : Int32), σ) else (lpw (LX0_pack_14 x1) ((1 : Int32), σ)).bind (fun b4 => (fX1_all (0 : Fin 3) b4).bind (fun v5 => (xla 3 b4 4 v5).bind (fun v6 => (some ((v6 + (15 : Int32)) / (16 : Int32))).bind (fun v7 => if x1 = (0 : Int32) then some (v7, b4) else some ((((16 : Int32) * v7) - v6), b4)))))) = some res := hf
  by_cases c0 : (fX0_in x1 (0 : Int32) (1 : Int32)) = (0 : Int32)
  · replace hf := o_t hf c0
    obtain rfl := Option.some.inj hf
    exact rl0.rf _
  · replace hf := o_f hf c0
    refine k_bind hf (fun b4 hb4 hf => ?_)
    refine rl0.tr (rLX0_pack_14 hb4) ?_
    refine k_bind hf (fun v5 hv5 hf => ?_)
    refine k_bind hf (fun v6 hv6 hf => ?_)
    refine k_bind hf (fun v7 hv7 hf => ?_)
    by_cases c0 : x1 = (0 : Int32)
    · replace hf := o_t hf c0
      obtain rfl := Option.some.inj hf
      exact rl0.rf _
    · replace hf := o_f hf c0
      obtain rfl := Option.some.inj hf
      exact rl0.rf _
set_option maxHeartbeats 4000000 in
set_option maxRecDepth 100000 in
theorem wbLX0_pack_14 {l : Launch} {E : xG} {p : Program} {e : Env} {s : State} {m : MethodId} {args : Array Value} {below : List Frame} {meth : Method} {c : Code} {Q : State → Prop} {n0 s0 nf sf : Nat} {y1 : Int32} {q : Int32 × xS} {res : (Int32 × xS) ⊕ (xS)} (S : xSt E RX0 p m c cX0_pack 4 s args meth (Option.some Jvm.ClassFile.FieldType.int)) (hf : LX0_pack_14 y1 q = some res) (hK : ∀ q, res = Sum.inl q → (∀ (H : Heap) (locs : List Loc) (cells slots : Nat) (ls : Array Slot), xR E q.2 H → va_S (xAA E) s.heap H locs → XN cells slots n0 s0 nf sf q.2 → lv_has ls 4 [(0, .ref (xo E)), (1, .int y1), (2, .int q.1)] → W p l e (xRm 3 68 (nf - n0) (sf - s0)) s m args below meth c H locs cells slots Q (F0 m 14 ls []))) (hE43 : ∀ b, res = Sum.inr b → (∀ (H : Heap) (locs : List Loc) (cells slots : Nat) (ls : Array Slot), xR E b H → va_S (xAA E) s.heap H locs → XN cells slots n0 s0 nf sf b → lv_has ls 4 [(0, .ref (xo E)), (1, .int y1)] → W p l e (xRm 3 68 (nf - n0) (sf - s0)) s m args below meth c H locs cells slots Q (F0 m 43 ls []))) : (∀ (H : Heap) (locs : List Loc) (cells slots : Nat) (ls : Array Slot), xR E q.2 H → va_S (xAA E) s.heap H locs → XN cells slots n0 s0 nf sf q.2 → lv_has ls 4 [(0, .ref (xo E)), (1, .int y1), (2, .int q.1)] → W p l e (xRm 3 68 (nf - n0) (sf - s0)) s m args below meth c H locs cells slots Q (F0 m 14 ls [])) := by
  replace hf : ((fX1_all (0 : Fin 3) q.2).bind (fun v1 => if v1 < q.1 then some (Sum.inr q.2) else (fX0_packOf q.1 q.2).bind (fun v2 => (xsa 3 q.2 4 q.1 v2.toInt16.toInt32).bind (fun σ3 => some (Sum.inl (q.1 + (1 : Int32), σ3)))))) = some res := hf
  obtain ⟨hx, hb, hml, hown, hts⟩ := S.1.1
  intro H locs cells slots ls hR hS hn hl
  refine lv_iload_n hx hb dX0_pack_14 rfl (lv_at hl 2 rfl) ?_
  refine lv_aload_n hx hb dX0_pack_15 rfl (lv_at hl 0 rfl) ?_
  refine x_oget (k := 0) (v := .ref (xnt E (0 : Fin 3))) S hR (lk_X0_10 _ List.mem_cons_self) rfl dX0_pack_16 ?_
  refine k_bind hf (fun v1 hv1 hf => ?_)
  refine x_call (C := RX1) (As := []) (rest := [.int q.1]) S hR hS hn (met_X1_all hv1) (rl1.rf _) (hn.b (rl0.rf _)) wi_X1_all (xrc S.2 hR (ci := 1) rfl (Or.inr (Or.inl ⟨_, rfl, rfl⟩))) rfl q663 ⟨Nat.le_of_ble_eq_true rfl, Nat.le_of_ble_eq_true rfl⟩ rfl hl.1 rfl (Nat.le_of_ble_eq_true rfl) dX0_pack_19 (fun H locs cells slots hR hS hn => ?_)
  refine lv_icmp_gt (tgt := 43) hx hb dX0_pack_22 (by decide) (fun c_22 => ?_) (fun c_22 => ?_)
  · replace hf := o_t hf c_22
    exact hE43 _ (Option.some.inj hf).symm _ _ _ _ _ hR hS hn (lv_sub (l' := [(0, .ref (xo E)), (1, .int y1)]) hl [0, 1] rfl)
  · replace hf := o_f hf c_22
    refine lv_aload_n hx hb dX0_pack_25 rfl (lv_at hl 0 rfl) ?_
    refine x_oget (k := 16) (v := .ref (xar E 4)) S hR (lk_X0_49 _ List.mem_cons_self) rfl dX0_pack_26 ?_
    refine lv_iload_n hx hb dX0_pack_29 rfl (lv_at hl 2 rfl) ?_
    refine lv_aload_n hx hb dX0_pack_30 rfl (lv_at hl 0 rfl) ?_
    refine lv_iload_n hx hb dX0_pack_31 rfl (lv_at hl 2 rfl) ?_
    refine k_bind hf (fun v2 hv2 hf => ?_)
    refine x_call (C := RX0) (As := [.int q.1]) (rest := [.int q.1, .ref (xar E 4)]) S hR hS hn (met_X0_packOf hv2) (rl1.rf _) (hn.b (rl0.rf _)) wi_X0_packOf (xrc S.2 hR (ci := 0) rfl (Or.inl ⟨rfl, rfl⟩)) rfl q1560 ⟨Nat.le_of_ble_eq_true rfl, Nat.le_of_ble_eq_true rfl⟩ rfl hl.1 rfl (Nat.le_of_ble_eq_true rfl) dX0_pack_32 (fun H locs cells slots hR hS hn => ?_)
    refine lv_i2s hx hb dX0_pack_35 rfl ?_
    refine k_bind hf (fun σ3 hσ3 hf => ?_)
    refine x_ss3 S hR hS hσ3 dX0_pack_36 (fun H locs hR hS => ?_)
    replace hn := hn.to (r0_sa hσ3)
    refine lv_iinc (lv' := [(2, .int (q.1 + (1 : Int32))), (0, .ref (xo E)), (1, .int y1)]) hx hb dX0_pack_37 hl (k := 2) rfl (m_inc (by decide)) (by decide) rfl (fun ls hl => ?_)
    refine lv_goto (tgt := 14) hx hb dX0_pack_40 (by decide) ?_
    exact hK _ (Option.some.inj hf).symm _ _ _ _ _ hR hS hn (lv_sub (l' := [(0, .ref (xo E)), (1, .int y1), (2, .int (q.1 + (1 : Int32)))]) hl [1, 2, 0] rfl)
set_option maxHeartbeats 4000000 in
set_option maxRecDepth 100000 in
theorem wLX0_pack_14 {l : Launch} {E : xG} {p : Program} {e : Env} {s : State} {m : MethodId} {args : Array Value} {below : List Frame} {meth : Method} {c : Code} {Q : State → Prop} {n0 s0 nf sf : Nat} {y1 : Int32} {q : Int32 × xS} {res : xS} (S : xSt E RX0 p m c cX0_pack 4 s args meth (Option.some Jvm.ClassFile.FieldType.int)) (h : lpw (LX0_pack_14 y1) q = some res) (hE43 : ∀ b, res = b → (∀ (H : Heap) (locs : List Loc) (cells slots : Nat) (ls : Array Slot), xR E b H → va_S (xAA E) s.heap H locs → XN cells slots n0 s0 nf sf b → lv_has ls 4 [(0, .ref (xo E)), (1, .int y1)] → W p l e (xRm 3 68 (nf - n0) (sf - s0)) s m args below meth c H locs cells slots Q (F0 m 43 ls []))) : (∀ (H : Heap) (locs : List Loc) (cells slots : Nat) (ls : Array Slot), xR E q.2 H → va_S (xAA E) s.heap H locs → XN cells slots n0 s0 nf sf q.2 → lv_has ls 4 [(0, .ref (xo E)), (1, .int y1), (2, .int q.1)] → W p l e (xRm 3 68 (nf - n0) (sf - s0)) s m args below meth c H locs cells slots Q (F0 m 14 ls [])) :=
  lpw_go _ (fun q => (∀ (H : Heap) (locs : List Loc) (cells slots : Nat) (ls : Array Slot), xR E q.2 H → va_S (xAA E) s.heap H locs → XN cells slots n0 s0 nf sf q.2 → lv_has ls 4 [(0, .ref (xo E)), (1, .int y1), (2, .int q.1)] → W p l e (xRm 3 68 (nf - n0) (sf - s0)) s m args below meth c H locs cells slots Q (F0 m 14 ls []))) (fun b0 => (∀ b, b0 = b → (∀ (H : Heap) (locs : List Loc) (cells slots : Nat) (ls : Array Slot), xR E b H → va_S (xAA E) s.heap H locs → XN cells slots n0 s0 nf sf b → lv_has ls 4 [(0, .ref (xo E)), (1, .int y1)] → W p l e (xRm 3 68 (nf - n0) (sf - s0)) s m args below meth c H locs cells slots Q (F0 m 43 ls [])))) (fun q x hf hK hX => wbLX0_pack_14 S hf hK (fun b eb => (hX _ eb) b rfl)) q res h hE43
set_option maxHeartbeats 4000000 in
set_option maxRecDepth 100000 in
theorem met_X0_pack {l : Launch} {E : xG} {x1 : Int32} {σ : xS} {res : Int32 × xS} (hf : fX0_pack x1 σ = some res) : xMet l yX0_pack cX0_pack 4 (Option.some Jvm.ClassFile.FieldType.int) 3 68 E [.ref (xo E), .int x1] σ (some (.int res.1)) res.2 := by
  replace hf : (if (fX0_in x1 (0 : Int32) (1 : Int32)) = (0 : Int32) then some ((-2 : Int32), σ) else (lpw (LX0_pack_14 x1) ((1 : Int32), σ)).bind (fun b4 => (fX1_all (0 : Fin 3) b4).bind (fun v5 => (xla 3 b4 4 v5).bind (fun v6 => (some ((v6 + (15 : Int32)) / (16 : Int32))).bind (fun v7 => if x1 = (0 : Int32) then some (v7, b4) else some ((((16 : Int32) * v7) - v6), b4)))))) = some res := hf
  refine x_start (by decide) (Nat.le_of_ble_eq_true rfl) ?_
  intro p e s m args below meth c S hnm hR hS ls hl
  obtain ⟨hx, hb, hml, hown, hts⟩ := S.1.1
  have hl : lv_has ls 4 [(0, .ref (xo E)), (1, .int x1)] := hl
  have hn : XN 0 0 (xnx σ) (xns σ) (xnx res.2) (xns res.2) σ := ⟨Nat.zero_add _, Nat.zero_add _, (r0_X0_pack (x1 := x1) (σ := σ) hf).le.1, (r0_X0_pack (x1 := x1) (σ := σ) hf).le.2⟩
  refine lv_iload_n hx hb dX0_pack_0 rfl (lv_at hl 1 rfl) ?_
  refine lv_iconst (v := 0) hx hb dX0_pack_1 (by decide) ?_
  refine lv_iconst (v := 1) hx hb dX0_pack_2 (by decide) ?_
  refine s_call (As := [.int x1, .int (0 : Int32), .int (1 : Int32)]) (rest := []) S.1.1 (met_X0_in rfl) wi_X0_in q479 ⟨rfl, rfl⟩ ⟨Nat.le_of_ble_eq_true rfl, Nat.le_of_ble_eq_true rfl⟩ rfl hl.1 rfl (Nat.le_of_ble_eq_true rfl) dX0_pack_3 hn.cs ?_
  refine lv_if_ne (tgt := 12) hx hb dX0_pack_6 (by decide) (fun c_6 => ?_) (fun c_6 => ?_)
  · replace hf := o_f hf c_6
    refine lv_iconst (v := 1) hx hb dX0_pack_12 (by decide) ?_
    refine lv_istore_n (lv' := [(2, .int (1 : Int32)), (0, .ref (xo E)), (1, .int x1)]) hx hb dX0_pack_13 rfl hl (by decide) rfl (fun ls hl => ?_)
    refine k_bind hf (fun b4 hb4 hf => ?_)
    refine wLX0_pack_14 S hb4 ?_ _ _ _ _ _ hR hS hn (lv_sub (l' := [(0, .ref (xo E)), (1, .int x1), (2, .int (1 : Int32))]) hl [1, 2, 0] rfl)
    · intro b eb; subst eb; intro H locs cells slots ls hR hS hn hl
      refine lv_aload_n hx hb dX0_pack_43 rfl (lv_at hl 0 rfl) ?_
      refine x_oget (k := 16) (v := .ref (xar E 4)) S hR (lk_X0_49 _ List.mem_cons_self) rfl dX0_pack_44 ?_
      refine lv_aload_n hx hb dX0_pack_47 rfl (lv_at hl 0 rfl) ?_
      refine x_oget (k := 0) (v := .ref (xnt E (0 : Fin 3))) S hR (lk_X0_10 _ List.mem_cons_self) rfl dX0_pack_48 ?_
      refine k_bind hf (fun v5 hv5 hf => ?_)
      refine x_call (C := RX1) (As := []) (rest := [.ref (xar E 4)]) S hR hS hn (met_X1_all hv5) (rl1.rf _) (hn.b (rl0.rf _)) wi_X1_all (xrc S.2 hR (ci := 1) rfl (Or.inr (Or.inl ⟨_, rfl, rfl⟩))) rfl q663 ⟨Nat.le_of_ble_eq_true rfl, Nat.le_of_ble_eq_true rfl⟩ rfl hl.1 rfl (Nat.le_of_ble_eq_true rfl) dX0_pack_51 (fun H locs cells slots hR hS hn => ?_)
      refine k_bind hf (fun v6 hv6 hf => ?_)
      refine x_sl3 S hR hv6 dX0_pack_54 ?_
      refine lv_istore_n (lv' := [(2, .int v6), (0, .ref (xo E)), (1, .int x1)]) hx hb dX0_pack_55 rfl hl (by decide) rfl (fun ls hl => ?_)
      refine lv_iload_n hx hb dX0_pack_56 rfl (lv_at hl 0 rfl) ?_
      refine lv_bipush (v := 15) hx hb dX0_pack_57 (by decide) ?_
      refine lv_iadd hx hb dX0_pack_59 ?_
      refine lv_bipush (v := 16) hx hb dX0_pack_60 (by decide) ?_
      refine lv_idiv hx hb dX0_pack_62 (by decide) ?_
      refine k_bind hf (fun v7 hv7 hf => ?_)
      refine m_nmi hv7 ?_
      refine lv_istore_n (lv' := [(3, .int v7), (2, .int v6), (0, .ref (xo E)), (1, .int x1)]) hx hb dX0_pack_63 rfl hl (by decide) rfl (fun ls hl => ?_)
      refine lv_iload_n hx hb dX0_pack_64 rfl (lv_at hl 3 rfl) ?_
      refine lv_if_ne (tgt := 72) hx hb dX0_pack_65 (by decide) (fun c_65 => ?_) (fun c_65 => ?_)
      · replace hf := o_f hf c_65
        refine lv_bipush (v := 16) hx hb dX0_pack_72 (by decide) ?_
        refine lv_iload_n hx hb dX0_pack_74 rfl (lv_at hl 0 rfl) ?_
        refine lv_imul hx hb dX0_pack_75 ?_
        refine lv_iload_n hx hb dX0_pack_76 rfl (lv_at hl 1 rfl) ?_
        refine lv_isub hx hb dX0_pack_77 ?_
        obtain rfl := Option.some.inj hf
        exact x_iret S hR hS hn rfl dX0_pack_78
      · replace hf := o_t hf c_65
        refine lv_iload_n hx hb dX0_pack_68 rfl (lv_at hl 0 rfl) ?_
        refine lv_goto (tgt := 78) hx hb dX0_pack_69 (by decide) ?_
        obtain rfl := Option.some.inj hf
        exact x_iret S hR hS hn rfl dX0_pack_78
  · replace hf := o_t hf c_6
    refine lv_bipush (v := -2) hx hb dX0_pack_9 (by decide) ?_
    obtain rfl := Option.some.inj hf
    exact x_iret S hR hS hn rfl dX0_pack_11
