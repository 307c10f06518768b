/-! the reference, walked: in comes point isPoint areTwo lays line bits cost costAt pointOf change lineMany count -/
noncomputable def fX4_in (x0 : Int32) (x1 : Int32) (x2 : Int32) : Int32 :=
  if x0 < x1 then (0 : Int32) else if x2 < x0 then (0 : Int32) else (1 : Int32)
theorem wi_X4_in : wInfS yX4_in cX4_in 3 (Option.some Jvm.ClassFile.FieldType.boolean) 3 := ⟨q2682, q116, q2683, (by decide +kernel), (by decide +kernel), (by decide +kernel)⟩
set_option maxHeartbeats 4000000 in
set_option maxRecDepth 100000 in
theorem met_X4_in {l : Launch} {x0 : Int32} {x1 : Int32} {x2 : Int32} {res : Int32} (hf : fX4_in x0 x1 x2 = res) : sMet l yX4_in cX4_in 3 (Option.some Jvm.ClassFile.FieldType.boolean) (mRm 0 0) [.int x0, .int x1, .int x2] (some (.int res)) := by
  replace hf : (if x0 < x1 then (0 : Int32) else if x2 < x0 then (0 : Int32) else (1 : Int32)) = res := hf
  refine s_start (by decide) (Nat.le_of_ble_eq_true rfl) ?_
  intro p e s m args below meth c S ls hl
  obtain ⟨hx, hb, hml, hown, hts⟩ := S.1
  have hl : lv_has ls 3 [(0, .int x0), (1, .int x1), (2, .int x2)] := hl
  refine lv_iload_n hx hb dX4_in_0 rfl (lv_at hl 0 rfl) ?_
  refine lv_iload_n hx hb dX4_in_1 rfl (lv_at hl 1 rfl) ?_
  refine lv_icmp_lt (tgt := 14) hx hb dX4_in_2 (by decide) (fun c_2 => ?_) (fun c_2 => ?_)
  · replace hf := o_t hf c_2
    refine lv_iconst (v := 0) hx hb dX4_in_14 (by decide) ?_
    subst hf
    exact s_iret S rfl dX4_in_15
  · replace hf := o_f hf c_2
    refine lv_iload_n hx hb dX4_in_5 rfl (lv_at hl 0 rfl) ?_
    refine lv_iload_n hx hb dX4_in_6 rfl (lv_at hl 2 rfl) ?_
    refine lv_icmp_gt (tgt := 14) hx hb dX4_in_7 (by decide) (fun c_7 => ?_) (fun c_7 => ?_)
    · replace hf := o_t hf c_7
      refine lv_iconst (v := 0) hx hb dX4_in_14 (by decide) ?_
      subst hf
      exact s_iret S rfl dX4_in_15
    · replace hf := o_f hf c_7
      refine lv_iconst (v := 1) hx hb dX4_in_10 (by decide) ?_
      refine lv_goto (tgt := 15) hx hb dX4_in_11 (by decide) ?_
      subst hf
      exact s_iret S rfl dX4_in_15

noncomputable def fX4_comes (x1 : Int32) (x2 : Int32) (σ : mS) : Option mS :=
  (mast σ 2 (σ.1 0) x1).bind (fun σ1 => (mast σ1 3 (σ1.1 0) x2).bind (fun σ2 => (mast σ2 4 (σ2.1 0) (0 : Int32)).bind (fun σ3 => (mput σ3 0 ((σ3.1 0) + (1 : Int32))).bind (fun σ4 => some σ4))))
theorem wi_X4_comes : wInfV yX4_comes cX4_comes 3 (Option.none : Option Jvm.ClassFile.FieldType) 2 := ⟨q2686, qs57, q116, q2687, (by decide +kernel), (by decide +kernel), (by decide +kernel)⟩
set_option maxHeartbeats 4000000 in
set_option maxRecDepth 100000 in
theorem met_X4_comes {l : Launch} {G : mG} {x1 : Int32} {x2 : Int32} {σ : mS} {res : mS} (hf : fX4_comes x1 x2 σ = some res) : mMet l yX4_comes cX4_comes 3 (Option.none : Option Jvm.ClassFile.FieldType) (mRm 0 0) G [.ref (mo G), .int x1, .int x2] σ none res := by
  replace hf : ((mast σ 2 (σ.1 0) x1).bind (fun σ1 => (mast σ1 3 (σ1.1 0) x2).bind (fun σ2 => (mast σ2 4 (σ2.1 0) (0 : Int32)).bind (fun σ3 => (mput σ3 0 ((σ3.1 0) + (1 : Int32))).bind (fun σ4 => some σ4))))) = some res := hf
  refine m_start (by decide) rfl (Nat.le_of_ble_eq_true rfl) ?_
  intro p e s m args below meth c S hR hS ls hl
  obtain ⟨hx, hb, hml, hown, hts⟩ := S.1.1
  have hl : lv_has ls 3 [(0, .ref (mo G)), (1, .int x1), (2, .int x2)] := hl
  refine lv_aload_n hx hb dX4_comes_0 rfl (lv_at hl 0 rfl) ?_
  refine m_geta (k := 2) S hR (by decide) (by decide) q2528 dX4_comes_1 ?_
  refine lv_aload_n hx hb dX4_comes_4 rfl (lv_at hl 0 rfl) ?_
  refine m_geti (k := 0) S hR (by decide) (by decide) q2526 dX4_comes_5 ?_
  refine lv_iload_n hx hb dX4_comes_8 rfl (lv_at hl 1 rfl) ?_
  refine k_bind hf (fun σ1 hσ1 hf => ?_)
  refine m_iast S hR hS hσ1 dX4_comes_9 (fun H locs hR hS => ?_)
  refine lv_aload_n hx hb dX4_comes_10 rfl (lv_at hl 0 rfl) ?_
  refine m_geta (k := 3) S hR (by decide) (by decide) q2529 dX4_comes_11 ?_
  refine lv_aload_n hx hb dX4_comes_14 rfl (lv_at hl 0 rfl) ?_
  refine m_geti (k := 0) S hR (by decide) (by decide) q2526 dX4_comes_15 ?_
  refine lv_iload_n hx hb dX4_comes_18 rfl (lv_at hl 2 rfl) ?_
  refine k_bind hf (fun σ2 hσ2 hf => ?_)
  refine m_iast S hR hS hσ2 dX4_comes_19 (fun H locs hR hS => ?_)
  refine lv_aload_n hx hb dX4_comes_20 rfl (lv_at hl 0 rfl) ?_
  refine m_geta (k := 4) S hR (by decide) (by decide) q2530 dX4_comes_21 ?_
  refine lv_aload_n hx hb dX4_comes_24 rfl (lv_at hl 0 rfl) ?_
  refine m_geti (k := 0) S hR (by decide) (by decide) q2526 dX4_comes_25 ?_
  refine lv_iconst (v := 0) hx hb dX4_comes_28 (by decide) ?_
  refine k_bind hf (fun σ3 hσ3 hf => ?_)
  refine m_iast S hR hS hσ3 dX4_comes_29 (fun H locs hR hS => ?_)
  refine lv_aload_n hx hb dX4_comes_30 rfl (lv_at hl 0 rfl) ?_
  refine lv_dup hx hb dX4_comes_31 rfl ?_
  refine m_geti (k := 0) S hR (by decide) (by decide) q2526 dX4_comes_32 ?_
  refine lv_iconst (v := 1) hx hb dX4_comes_35 (by decide) ?_
  refine lv_iadd hx hb dX4_comes_36 ?_
  refine k_bind hf (fun σ4 hσ4 hf => ?_)
  refine m_puti (k := 0) S hR hS hσ4 (by decide) (by decide) rfl rfl rfl rfl q2526 dX4_comes_37 (fun H locs hR hS => ?_)
  obtain rfl := Option.some.inj hf
  exact m_vret S hR hS dX4_comes_40

noncomputable def fX4_point (x1 : Int32) (x2 : Int32) (σ : mS) : Option (Int32 × mS) :=
  if (fX4_in x1 (0 : Int32) (5 : Int32)) = (0 : Int32) then some ((-2 : Int32), σ) else if (fX4_in x2 (1 : Int32) (9 : Int32)) = (0 : Int32) then some ((-2 : Int32), σ) else if (σ.1 0) = (12 : Int32) then some ((-4 : Int32), σ) else (fX4_comes x1 x2 σ).bind (fun e1 => some (((e1.1 0) - (1 : Int32)), e1))
theorem wi_X4_point : wInfV yX4_point cX4_point 3 (Option.some Jvm.ClassFile.FieldType.int) 2 := ⟨q2678, q2679, q116, q2680, (by decide +kernel), (by decide +kernel), (by decide +kernel)⟩
set_option maxHeartbeats 4000000 in
set_option maxRecDepth 100000 in
theorem met_X4_point {l : Launch} {G : mG} {x1 : Int32} {x2 : Int32} {σ : mS} {res : Int32 × mS} (hf : fX4_point x1 x2 σ = some res) : mMet l yX4_point cX4_point 3 (Option.some Jvm.ClassFile.FieldType.int) (mRm 1 22) G [.ref (mo G), .int x1, .int x2] σ (some (.int res.1)) res.2 := by
  replace hf : (if (fX4_in x1 (0 : Int32) (5 : Int32)) = (0 : Int32) then some ((-2 : Int32), σ) else if (fX4_in x2 (1 : Int32) (9 : Int32)) = (0 : Int32) then some ((-2 : Int32), σ) else if (σ.1 0) = (12 : Int32) then some ((-4 : Int32), σ) else (fX4_comes x1 x2 σ).bind (fun e1 => some (((e1.1 0) - (1 : Int32)), e1))) = some res := hf
  refine m_start (by decide) rfl (Nat.le_of_ble_eq_true rfl) ?_
  intro p e s m args below meth c S hR hS ls hl
  obtain ⟨hx, hb, hml, hown, hts⟩ := S.1.1
  have hl : lv_has ls 3 [(0, .ref (mo G)), (1, .int x1), (2, .int x2)] := hl
  refine lv_iload_n hx hb dX4_point_0 rfl (lv_at hl 1 rfl) ?_
  refine lv_iconst (v := 0) hx hb dX4_point_1 (by decide) ?_
  refine lv_iconst (v := 5) hx hb dX4_point_2 (by decide) ?_
  refine s_call (As := [.int x1, .int (0 : Int32), .int (5 : Int32)]) (rest := []) S.1.1 (met_X4_in rfl) wi_X4_in q2681 ⟨rfl, rfl⟩ ⟨Nat.le_of_ble_eq_true rfl, Nat.le_of_ble_eq_true rfl⟩ rfl hl.1 rfl (Nat.le_of_ble_eq_true rfl) dX4_point_3 ⟨Nat.zero_le _, Nat.zero_le _⟩ ?_
  refine lv_if_eq (tgt := 19) hx hb dX4_point_6 (by decide) (fun c_6 => ?_) (fun c_6 => ?_)
  · replace hf := o_t hf c_6
    refine lv_bipush (v := -2) hx hb dX4_point_19 (by decide) ?_
    obtain rfl := Option.some.inj hf
    exact m_iret S hR hS rfl dX4_point_21
  · replace hf := o_f hf c_6
    refine lv_iload_n hx hb dX4_point_9 rfl (lv_at hl 2 rfl) ?_
    refine lv_iconst (v := 1) hx hb dX4_point_10 (by decide) ?_
    refine lv_bipush (v := 9) hx hb dX4_point_11 (by decide) ?_
    refine s_call (As := [.int x2, .int (1 : Int32), .int (9 : Int32)]) (rest := []) S.1.1 (met_X4_in rfl) wi_X4_in q2681 ⟨rfl, rfl⟩ ⟨Nat.le_of_ble_eq_true rfl, Nat.le_of_ble_eq_true rfl⟩ rfl hl.1 rfl (Nat.le_of_ble_eq_true rfl) dX4_point_13 ⟨Nat.zero_le _, Nat.zero_le _⟩ ?_
    refine lv_if_ne (tgt := 22) hx hb dX4_point_16 (by decide) (fun c_16 => ?_) (fun c_16 => ?_)
    · replace hf := o_f hf c_16
      refine lv_aload_n hx hb dX4_point_22 rfl (lv_at hl 0 rfl) ?_
      refine m_geti (k := 0) S hR (by decide) (by decide) q2526 dX4_point_23 ?_
      refine lv_bipush (v := 12) hx hb dX4_point_26 (by decide) ?_
      refine lv_icmp_ne (tgt := 34) hx hb dX4_point_28 (by decide) (fun c_28 => ?_) (fun c_28 => ?_)
      · replace hf := o_f hf c_28
        refine lv_aload_n hx hb dX4_point_34 rfl (lv_at hl 0 rfl) ?_
        refine lv_iload_n hx hb dX4_point_35 rfl (lv_at hl 1 rfl) ?_
        refine lv_iload_n hx hb dX4_point_36 rfl (lv_at hl 2 rfl) ?_
        refine k_bind hf (fun e1 he1 hf => ?_)
        refine m_call (As := [.int x1, .int x2]) (rest := []) S hR hS (met_X4_comes he1) wi_X4_comes rfl q2684 ⟨rfl, rfl⟩ ⟨Nat.le_of_ble_eq_true rfl, Nat.le_of_ble_eq_true rfl⟩ rfl hl.1 rfl (Nat.le_of_ble_eq_true rfl) dX4_point_37 (fun H locs hR hS => ?_)
        refine lv_aload_n hx hb dX4_point_40 rfl (lv_at hl 0 rfl) ?_
        refine m_geti (k := 0) S hR (by decide) (by decide) q2526 dX4_point_41 ?_
        refine lv_iconst (v := 1) hx hb dX4_point_44 (by decide) ?_
        refine lv_isub hx hb dX4_point_45 ?_
        obtain rfl := Option.some.inj hf
        exact m_iret S hR hS rfl dX4_point_46
      · replace hf := o_t hf c_28
        refine lv_bipush (v := -4) hx hb dX4_point_31 (by decide) ?_
        obtain rfl := Option.some.inj hf
        exact m_iret S hR hS rfl dX4_point_33
    · replace hf := o_t hf c_16
      refine lv_bipush (v := -2) hx hb dX4_point_19 (by decide) ?_
      obtain rfl := Option.some.inj hf
      exact m_iret S hR hS rfl dX4_point_21

noncomputable def fX4_isPoint (x1 : Int32) (σ : mS) : Int32 :=
  ((fX4_in x1 (0 : Int32) ((σ.1 0) - (1 : Int32))) &&& 1)
theorem wi_X4_isPoint : wInfV yX4_isPoint cX4_isPoint 2 (Option.some Jvm.ClassFile.FieldType.boolean) 1 := ⟨q2698, qs59, q116, q2699, (by decide +kernel), (by decide +kernel), (by decide +kernel)⟩
set_option maxHeartbeats 4000000 in
set_option maxRecDepth 100000 in
theorem met_X4_isPoint {l : Launch} {G : mG} {x1 : Int32} {σ : mS} {res : Int32} (hf : fX4_isPoint x1 σ = res) : mMet l yX4_isPoint cX4_isPoint 2 (Option.some Jvm.ClassFile.FieldType.boolean) (mRm 1 22) G [.ref (mo G), .int x1] σ (some (.int res)) σ := by
  replace hf : ((fX4_in x1 (0 : Int32) ((σ.1 0) - (1 : Int32))) &&& 1) = res := hf
  refine m_start (by decide) rfl (Nat.le_of_ble_eq_true rfl) ?_
  intro p e s m args below meth c S hR hS ls hl
  obtain ⟨hx, hb, hml, hown, hts⟩ := S.1.1
  have hl : lv_has ls 2 [(0, .ref (mo G)), (1, .int x1)] := hl
  refine lv_iload_n hx hb dX4_isPoint_0 rfl (lv_at hl 1 rfl) ?_
  refine lv_iconst (v := 0) hx hb dX4_isPoint_1 (by decide) ?_
  refine lv_aload_n hx hb dX4_isPoint_2 rfl (lv_at hl 0 rfl) ?_
  refine m_geti (k := 0) S hR (by decide) (by decide) q2526 dX4_isPoint_3 ?_
  refine lv_iconst (v := 1) hx hb dX4_isPoint_6 (by decide) ?_
  refine lv_isub hx hb dX4_isPoint_7 ?_
  refine s_call (As := [.int x1, .int (0 : Int32), .int ((σ.1 0) - (1 : Int32))]) (rest := []) S.1.1 (met_X4_in rfl) wi_X4_in q2681 ⟨rfl, rfl⟩ ⟨Nat.le_of_ble_eq_true rfl, Nat.le_of_ble_eq_true rfl⟩ rfl hl.1 rfl (Nat.le_of_ble_eq_true rfl) dX4_isPoint_8 ⟨Nat.zero_le _, Nat.zero_le _⟩ ?_
  subst hf
  exact m_iret S hR hS rfl dX4_isPoint_11

noncomputable def fX4_areTwo (x1 : Int32) (x2 : Int32) (σ : mS) : Int32 :=
  if (fX4_isPoint x1 σ) = (0 : Int32) then (0 : Int32) else if (fX4_isPoint x2 σ) = (0 : Int32) then (0 : Int32) else if x1 = x2 then (0 : Int32) else (1 : Int32)
theorem wi_X4_areTwo : wInfV yX4_areTwo cX4_areTwo 3 (Option.some Jvm.ClassFile.FieldType.boolean) 2 := ⟨q2694, qs58, q116, q2695, (by decide +kernel), (by decide +kernel), (by decide +kernel)⟩
set_option maxHeartbeats 4000000 in
set_option maxRecDepth 100000 in
theorem met_X4_areTwo {l : Launch} {G : mG} {x1 : Int32} {x2 : Int32} {σ : mS} {res : Int32} (hf : fX4_areTwo x1 x2 σ = res) : mMet l yX4_areTwo cX4_areTwo 3 (Option.some Jvm.ClassFile.FieldType.boolean) (mRm 2 43) G [.ref (mo G), .int x1, .int x2] σ (some (.int res)) σ := by
  replace hf : (if (fX4_isPoint x1 σ) = (0 : Int32) then (0 : Int32) else if (fX4_isPoint x2 σ) = (0 : Int32) then (0 : Int32) else if x1 = x2 then (0 : Int32) else (1 : Int32)) = res := hf
  refine m_start (by decide) rfl (Nat.le_of_ble_eq_true rfl) ?_
  intro p e s m args below meth c S hR hS ls hl
  obtain ⟨hx, hb, hml, hown, hts⟩ := S.1.1
  have hl : lv_has ls 3 [(0, .ref (mo G)), (1, .int x1), (2, .int x2)] := hl
  refine lv_aload_n hx hb dX4_areTwo_0 rfl (lv_at hl 0 rfl) ?_
  refine lv_iload_n hx hb dX4_areTwo_1 rfl (lv_at hl 1 rfl) ?_
  refine m_call (As := [.int x1]) (rest := []) S hR hS (met_X4_isPoint rfl) wi_X4_isPoint rfl q2696 ⟨rfl, rfl⟩ ⟨Nat.le_of_ble_eq_true rfl, Nat.le_of_ble_eq_true rfl⟩ rfl hl.1 rfl (Nat.le_of_ble_eq_true rfl) dX4_areTwo_2 (fun H locs hR hS => ?_)
  refine lv_if_eq (tgt := 25) hx hb dX4_areTwo_5 (by decide) (fun c_5 => ?_) (fun c_5 => ?_)
  · replace hf := o_t hf c_5
    refine lv_iconst (v := 0) hx hb dX4_areTwo_25 (by decide) ?_
    subst hf
    exact m_iret S hR hS rfl dX4_areTwo_26
  · replace hf := o_f hf c_5
    refine lv_aload_n hx hb dX4_areTwo_8 rfl (lv_at hl 0 rfl) ?_
    refine lv_iload_n hx hb dX4_areTwo_9 rfl (lv_at hl 2 rfl) ?_
    refine m_call (As := [.int x2]) (rest := []) S hR hS (met_X4_isPoint rfl) wi_X4_isPoint rfl q2696 ⟨rfl, rfl⟩ ⟨Nat.le_of_ble_eq_true rfl, Nat.le_of_ble_eq_true rfl⟩ rfl hl.1 rfl (Nat.le_of_ble_eq_true rfl) dX4_areTwo_10 (fun H locs hR hS => ?_)
    refine lv_if_eq (tgt := 25) hx hb dX4_areTwo_13 (by decide) (fun c_13 => ?_) (fun c_13 => ?_)
    · replace hf := o_t hf c_13
      refine lv_iconst (v := 0) hx hb dX4_areTwo_25 (by decide) ?_
      subst hf
      exact m_iret S hR hS rfl dX4_areTwo_26
    · replace hf := o_f hf c_13
      refine lv_iload_n hx hb dX4_areTwo_16 rfl (lv_at hl 1 rfl) ?_
      refine lv_iload_n hx hb dX4_areTwo_17 rfl (lv_at hl 2 rfl) ?_
      refine lv_icmp_eq (tgt := 25) hx hb dX4_areTwo_18 (by decide) (fun c_18 => ?_) (fun c_18 => ?_)
      · replace hf := o_t hf c_18
        refine lv_iconst (v := 0) hx hb dX4_areTwo_25 (by decide) ?_
        subst hf
        exact m_iret S hR hS rfl dX4_areTwo_26
      · replace hf := o_f hf c_18
        refine lv_iconst (v := 1) hx hb dX4_areTwo_21 (by decide) ?_
        refine lv_goto (tgt := 26) hx hb dX4_areTwo_22 (by decide) ?_
        subst hf
        exact m_iret S hR hS rfl dX4_areTwo_26

noncomputable def fX4_lays (x1 : Int32) (x2 : Int32) (x3 : Int32) (σ : mS) : Option mS :=
  (mald σ 4 x1).bind (fun v1 => (mast σ 4 x1 ((v1 &&& ((ish (1 : Int32) x2) ^^^ (-1 : Int32))) ||| (ish x3 x2))).bind (fun σ2 => (mald σ2 4 x2).bind (fun v3 => (mast σ2 4 x2 ((v3 &&& ((ish (1 : Int32) x1) ^^^ (-1 : Int32))) ||| (ish x3 x1))).bind (fun σ4 => some σ4))))
theorem wi_X4_lays : wInfV yX4_lays cX4_lays 4 (Option.none : Option Jvm.ClassFile.FieldType) 3 := ⟨q2702, qs60, q116, q2703, (by decide +kernel), (by decide +kernel), (by decide +kernel)⟩
set_option maxHeartbeats 4000000 in
set_option maxRecDepth 100000 in
theorem met_X4_lays {l : Launch} {G : mG} {x1 : Int32} {x2 : Int32} {x3 : Int32} {σ : mS} {res : mS} (hf : fX4_lays x1 x2 x3 σ = some res) : mMet l yX4_lays cX4_lays 4 (Option.none : Option Jvm.ClassFile.FieldType) (mRm 0 0) G [.ref (mo G), .int x1, .int x2, .int x3] σ none res := by
  replace hf : ((mald σ 4 x1).bind (fun v1 => (mast σ 4 x1 ((v1 &&& ((ish (1 : Int32) x2) ^^^ (-1 : Int32))) ||| (ish x3 x2))).bind (fun σ2 => (mald σ2 4 x2).bind (fun v3 => (mast σ2 4 x2 ((v3 &&& ((ish (1 : Int32) x1) ^^^ (-1 : Int32))) ||| (ish x3 x1))).bind (fun σ4 => some σ4))))) = some res := hf
  refine m_start (by decide) rfl (Nat.le_of_ble_eq_true rfl) ?_
  intro p e s m args below meth c S hR hS ls hl
  obtain ⟨hx, hb, hml, hown, hts⟩ := S.1.1
  have hl : lv_has ls 4 [(0, .ref (mo G)), (1, .int x1), (2, .int x2), (3, .int x3)] := hl
  refine lv_aload_n hx hb dX4_lays_0 rfl (lv_at hl 0 rfl) ?_
  refine m_geta (k := 4) S hR (by decide) (by decide) q2530 dX4_lays_1 ?_
  refine lv_iload_n hx hb dX4_lays_4 rfl (lv_at hl 1 rfl) ?_
  refine lv_aload_n hx hb dX4_lays_5 rfl (lv_at hl 0 rfl) ?_
  refine m_geta (k := 4) S hR (by decide) (by decide) q2530 dX4_lays_6 ?_
  refine lv_iload_n hx hb dX4_lays_9 rfl (lv_at hl 1 rfl) ?_
  refine k_bind hf (fun v1 hv1 hf => ?_)
  refine m_iald S hR hv1 dX4_lays_10 ?_
  refine lv_iconst (v := 1) hx hb dX4_lays_11 (by decide) ?_
  refine lv_iload_n hx hb dX4_lays_12 rfl (lv_at hl 2 rfl) ?_
  refine lv_ishl hx hb dX4_lays_13 ?_
  refine lv_iconst (v := -1) hx hb dX4_lays_14 (by decide) ?_
  refine lv_ixor hx hb dX4_lays_15 ?_
  refine lv_iand hx hb dX4_lays_16 ?_
  refine lv_iload_n hx hb dX4_lays_17 rfl (lv_at hl 3 rfl) ?_
  refine lv_iload_n hx hb dX4_lays_18 rfl (lv_at hl 2 rfl) ?_
  refine lv_ishl hx hb dX4_lays_19 ?_
  refine lv_ior hx hb dX4_lays_20 ?_
  refine k_bind hf (fun σ2 hσ2 hf => ?_)
  refine m_iast S hR hS hσ2 dX4_lays_21 (fun H locs hR hS => ?_)
  refine lv_aload_n hx hb dX4_lays_22 rfl (lv_at hl 0 rfl) ?_
  refine m_geta (k := 4) S hR (by decide) (by decide) q2530 dX4_lays_23 ?_
  refine lv_iload_n hx hb dX4_lays_26 rfl (lv_at hl 2 rfl) ?_
  refine lv_aload_n hx hb dX4_lays_27 rfl (lv_at hl 0 rfl) ?_
  refine m_geta (k := 4) S hR (by decide) (by decide) q2530 dX4_lays_28 ?_
  refine lv_iload_n hx hb dX4_lays_31 rfl (lv_at hl 2 rfl) ?_
  refine k_bind hf (fun v3 hv3 hf => ?_)
  refine m_iald S hR hv3 dX4_lays_32 ?_
  refine lv_iconst (v := 1) hx hb dX4_lays_33 (by decide) ?_
  refine lv_iload_n hx hb dX4_lays_34 rfl (lv_at hl 1 rfl) ?_
  refine lv_ishl hx hb dX4_lays_35 ?_
  refine lv_iconst (v := -1) hx hb dX4_lays_36 (by decide) ?_
  refine lv_ixor hx hb dX4_lays_37 ?_
  refine lv_iand hx hb dX4_lays_38 ?_
  refine lv_iload_n hx hb dX4_lays_39 rfl (lv_at hl 3 rfl) ?_
  refine lv_iload_n hx hb dX4_lays_40 rfl (lv_at hl 1 rfl) ?_
  refine lv_ishl hx hb dX4_lays_41 ?_
  refine lv_ior hx hb dX4_lays_42 ?_
  refine k_bind hf (fun σ4 hσ4 hf => ?_)
  refine m_iast S hR hS hσ4 dX4_lays_43 (fun H locs hR hS => ?_)
  obtain rfl := Option.some.inj hf
  exact m_vret S hR hS dX4_lays_44

noncomputable def fX4_line (x1 : Int32) (x2 : Int32) (x3 : Int32) (σ : mS) : Option (Int32 × mS) :=
  if (fX4_areTwo x1 x2 σ) = (0 : Int32) then some ((-2 : Int32), σ) else if (fX4_in x3 (0 : Int32) (1 : Int32)) = (0 : Int32) then some ((-2 : Int32), σ) else (mald σ 4 x1).bind (fun v1 => (some ((isr v1 x2) &&& (1 : Int32))).bind (fun v2 => (fX4_lays x1 x2 x3 σ).bind (fun e3 => some (v2, e3))))
theorem wi_X4_line : wInfV yX4_line cX4_line 5 (Option.some Jvm.ClassFile.FieldType.int) 3 := ⟨q2689, q2690, q116, q2691, (by decide +kernel), (by decide +kernel), (by decide +kernel)⟩
set_option maxHeartbeats 4000000 in
set_option maxRecDepth 100000 in
theorem met_X4_line {l : Launch} {G : mG} {x1 : Int32} {x2 : Int32} {x3 : Int32} {σ : mS} {res : Int32 × mS} (hf : fX4_line x1 x2 x3 σ = some res) : mMet l yX4_line cX4_line 5 (Option.some Jvm.ClassFile.FieldType.int) (mRm 3 65) G [.ref (mo G), .int x1, .int x2, .int x3] σ (some (.int res.1)) res.2 := by
  replace hf : (if (fX4_areTwo x1 x2 σ) = (0 : Int32) then some ((-2 : Int32), σ) else if (fX4_in x3 (0 : Int32) (1 : Int32)) = (0 : Int32) then some ((-2 : Int32), σ) else (mald σ 4 x1).bind (fun v1 => (some ((isr v1 x2) &&& (1 : Int32))).bind (fun v2 => (fX4_lays x1 x2 x3 σ).bind (fun e3 => some (v2, e3))))) = some res := hf
  refine m_start (by decide) rfl (Nat.le_of_ble_eq_true rfl) ?_
  intro p e s m args below meth c S hR hS ls hl
  obtain ⟨hx, hb, hml, hown, hts⟩ := S.1.1
  have hl : lv_has ls 5 [(0, .ref (mo G)), (1, .int x1), (2, .int x2), (3, .int x3)] := hl
  refine lv_aload_n hx hb dX4_line_0 rfl (lv_at hl 0 rfl) ?_
  refine lv_iload_n hx hb dX4_line_1 rfl (lv_at hl 1 rfl) ?_
  refine lv_iload_n hx hb dX4_line_2 rfl (lv_at hl 2 rfl) ?_
  refine m_call (As := [.int x1, .int x2]) (rest := []) S hR hS (met_X4_areTwo rfl) wi_X4_areTwo rfl q2692 ⟨rfl, rfl⟩ ⟨Nat.le_of_ble_eq_true rfl, Nat.le_of_ble_eq_true rfl⟩ rfl hl.1 rfl (Nat.le_of_ble_eq_true rfl) dX4_line_3 (fun H locs hR hS => ?_)
  refine lv_if_eq (tgt := 18) hx hb dX4_line_6 (by decide) (fun c_6 => ?_) (fun c_6 => ?_)
  · replace hf := o_t hf c_6
    refine lv_bipush (v := -2) hx hb dX4_line_18 (by decide) ?_
    obtain rfl := Option.some.inj hf
    exact m_iret S hR hS rfl dX4_line_20
  · replace hf := o_f hf c_6
    refine lv_iload_n hx hb dX4_line_9 rfl (lv_at hl 3 rfl) ?_
    refine lv_iconst (v := 0) hx hb dX4_line_10 (by decide) ?_
    refine lv_iconst (v := 1) hx hb dX4_line_11 (by decide) ?_
    refine s_call (As := [.int x3, .int (0 : Int32), .int (1 : Int32)]) (rest := []) S.1.1 (met_X4_in rfl) wi_X4_in q2681 ⟨rfl, rfl⟩ ⟨Nat.le_of_ble_eq_true rfl, Nat.le_of_ble_eq_true rfl⟩ rfl hl.1 rfl (Nat.le_of_ble_eq_true rfl) dX4_line_12 ⟨Nat.zero_le _, Nat.zero_le _⟩ ?_
    refine lv_if_ne (tgt := 21) hx hb dX4_line_15 (by decide) (fun c_15 => ?_) (fun c_15 => ?_)
    · replace hf := o_f hf c_15
      refine lv_aload_n hx hb dX4_line_21 rfl (lv_at hl 0 rfl) ?_
      refine m_geta (k := 4) S hR (by decide) (by decide) q2530 dX4_line_22 ?_
      refine lv_iload_n hx hb dX4_line_25 rfl (lv_at hl 1 rfl) ?_
      refine k_bind hf (fun v1 hv1 hf => ?_)
      refine m_iald S hR hv1 dX4_line_26 ?_
      refine lv_iload_n hx hb dX4_line_27 rfl (lv_at hl 2 rfl) ?_
      refine lv_ishr hx hb dX4_line_28 ?_
      refine lv_iconst (v := 1) hx hb dX4_line_29 (by decide) ?_
      refine lv_iand hx hb dX4_line_30 ?_
      refine k_bind hf (fun v2 hv2 hf => ?_)
      refine m_nmi hv2 ?_
      refine lv_istore (lv' := [(4, .int v2), (0, .ref (mo G)), (1, .int x1), (2, .int x2), (3, .int x3)]) hx hb dX4_line_31 hl (by decide) rfl (fun ls hl => ?_)
      refine lv_aload_n hx hb dX4_line_33 rfl (lv_at hl 1 rfl) ?_
      refine lv_iload_n hx hb dX4_line_34 rfl (lv_at hl 2 rfl) ?_
      refine lv_iload_n hx hb dX4_line_35 rfl (lv_at hl 3 rfl) ?_
      refine lv_iload_n hx hb dX4_line_36 rfl (lv_at hl 4 rfl) ?_
      refine k_bind hf (fun e3 he3 hf => ?_)
      refine m_call (As := [.int x1, .int x2, .int x3]) (rest := []) S hR hS (met_X4_lays he3) wi_X4_lays rfl q2700 ⟨rfl, rfl⟩ ⟨Nat.le_of_ble_eq_true rfl, Nat.le_of_ble_eq_true rfl⟩ rfl hl.1 rfl (Nat.le_of_ble_eq_true rfl) dX4_line_37 (fun H locs hR hS => ?_)
      refine lv_iload hx hb dX4_line_40 (lv_at hl 0 rfl) ?_
      obtain rfl := Option.some.inj hf
      exact m_iret S hR hS rfl dX4_line_42
    · replace hf := o_t hf c_15
      refine lv_bipush (v := -2) hx hb dX4_line_18 (by decide) ?_
      obtain rfl := Option.some.inj hf
      exact m_iret S hR hS rfl dX4_line_20

noncomputable def LX4_bits_4 (q : Int32 × Int32) : Option ((Int32 × Int32) ⊕ (Int32)) :=
  if q.2 = (0 : Int32) then some (Sum.inr q.1) else (some (q.2 &&& (q.2 - (1 : Int32)))).bind (fun v1 => some (Sum.inl (q.1 + (1 : Int32), v1)))
noncomputable def fX4_bits (x0 : Int32) : Option Int32 :=
  (lpw (LX4_bits_4) ((0 : Int32), x0)).bind (fun b2 => some b2)
theorem wi_X4_bits : wInfS yX4_bits cX4_bits 3 (Option.some Jvm.ClassFile.FieldType.int) 1 := ⟨q2713, q116, q2714, (by decide +kernel), (by decide +kernel), (by decide +kernel)⟩
set_option maxHeartbeats 4000000 in
set_option maxRecDepth 100000 in
theorem wbLX4_bits_4 {l : Launch} {p : Program} {e : Env} {s : State} {m : MethodId} {args : Array Value} {below : List Frame} {meth : Method} {c : Code} {Q : State → Prop} {q : Int32 × Int32} {res : (Int32 × Int32) ⊕ (Int32)} (S : wSt RX4 p m c cX4_bits 3 s args meth (Option.some Jvm.ClassFile.FieldType.int)) (hf : LX4_bits_4 q = some res) (hK : ∀ q, res = Sum.inl q → (∀ (ls : Array Slot), lv_has ls 3 [(1, .int q.1), (2, .int q.2)] → W p l e (mRm 0 0) s m args below meth c s.heap [] 0 0 Q (F0 m 4 ls []))) (hE20 : ∀ b, res = Sum.inr b → (∀ (ls : Array Slot), lv_has ls 3 [(1, .int b)] → W p l e (mRm 0 0) s m args below meth c s.heap [] 0 0 Q (F0 m 20 ls []))) : (∀ (ls : Array Slot), lv_has ls 3 [(1, .int q.1), (2, .int q.2)] → W p l e (mRm 0 0) s m args below meth c s.heap [] 0 0 Q (F0 m 4 ls [])) := by
  replace hf : (if q.2 = (0 : Int32) then some (Sum.inr q.1) else (some (q.2 &&& (q.2 - (1 : Int32)))).bind (fun v1 => some (Sum.inl (q.1 + (1 : Int32), v1)))) = some res := hf
  obtain ⟨hx, hb, hml, hown, hts⟩ := S.1
  intro ls hl
  refine lv_iload_n hx hb dX4_bits_4 rfl (lv_at hl 1 rfl) ?_
  refine lv_if_eq (tgt := 20) hx hb dX4_bits_5 (by decide) (fun c_5 => ?_) (fun c_5 => ?_)
  · replace hf := o_t hf c_5
    exact hE20 _ (Option.some.inj hf).symm _ (lv_sub (l' := [(1, .int q.1)]) hl [0] rfl)
  · replace hf := o_f hf c_5
    refine lv_iinc (lv' := [(1, .int (q.1 + (1 : Int32))), (2, .int q.2)]) hx hb dX4_bits_8 hl (k := 0) rfl (m_inc (by decide)) (by decide) rfl (fun ls hl => ?_)
    refine lv_iload_n hx hb dX4_bits_11 rfl (lv_at hl 1 rfl) ?_
    refine lv_iload_n hx hb dX4_bits_12 rfl (lv_at hl 1 rfl) ?_
    refine lv_iconst (v := 1) hx hb dX4_bits_13 (by decide) ?_
    refine lv_isub hx hb dX4_bits_14 ?_
    refine lv_iand hx hb dX4_bits_15 ?_
    refine k_bind hf (fun v1 hv1 hf => ?_)
    refine m_nmi hv1 ?_
    refine lv_istore_n (lv' := [(2, .int v1), (1, .int (q.1 + (1 : Int32)))]) hx hb dX4_bits_16 rfl hl (by decide) rfl (fun ls hl => ?_)
    refine lv_goto (tgt := 4) hx hb dX4_bits_17 (by decide) ?_
    exact hK _ (Option.some.inj hf).symm _ (lv_sub (l' := [(1, .int (q.1 + (1 : Int32))), (2, .int v1)]) hl [1, 0] rfl)
set_option maxHeartbeats 4000000 in
set_option maxRecDepth 100000 in
theorem wLX4_bits_4 {l : Launch} {p : Program} {e : Env} {s : State} {m : MethodId} {args : Array Value} {below : List Frame} {meth : Method} {c : Code} {Q : State → Prop} {q : Int32 × Int32} {res : Int32} (S : wSt RX4 p m c cX4_bits 3 s args meth (Option.some Jvm.ClassFile.FieldType.int)) (h : lpw (LX4_bits_4) q = some res) (hE20 : ∀ b, res = b → (∀ (ls : Array Slot), lv_has ls 3 [(1, .int b)] → W p l e (mRm 0 0) s m args below meth c s.heap [] 0 0 Q (F0 m 20 ls []))) : (∀ (ls : Array Slot), lv_has ls 3 [(1, .int q.1), (2, .int q.2)] → W p l e (mRm 0 0) s m args below meth c s.heap [] 0 0 Q (F0 m 4 ls [])) :=
  lpw_go _ (fun q => (∀ (ls : Array Slot), lv_has ls 3 [(1, .int q.1), (2, .int q.2)] → W p l e (mRm 0 0) s m args below meth c s.heap [] 0 0 Q (F0 m 4 ls []))) (fun b0 => (∀ b, b0 = b → (∀ (ls : Array Slot), lv_has ls 3 [(1, .int b)] → W p l e (mRm 0 0) s m args below meth c s.heap [] 0 0 Q (F0 m 20 ls [])))) (fun q x hf hK hX => wbLX4_bits_4 S hf hK (fun b eb => (hX _ eb) b rfl)) q res h hE20
set_option maxHeartbeats 4000000 in
set_option maxRecDepth 100000 in
theorem met_X4_bits {l : Launch} {x0 : Int32} {res : Int32} (hf : fX4_bits x0 = some res) : sMet l yX4_bits cX4_bits 3 (Option.some Jvm.ClassFile.FieldType.int) (mRm 0 0) [.int x0] (some (.int res)) := by
  replace hf : ((lpw (LX4_bits_4) ((0 : Int32), x0)).bind (fun b2 => some b2)) = some res := hf
  refine s_start (by decide) (Nat.le_of_ble_eq_true rfl) ?_
  intro p e s m args below meth c S ls hl
  obtain ⟨hx, hb, hml, hown, hts⟩ := S.1
  have hl : lv_has ls 3 [(0, .int x0)] := hl
  refine lv_iconst (v := 0) hx hb dX4_bits_0 (by decide) ?_
  refine lv_istore_n (lv' := [(1, .int (0 : Int32)), (0, .int x0)]) hx hb dX4_bits_1 rfl hl (by decide) rfl (fun ls hl => ?_)
  refine lv_iload_n hx hb dX4_bits_2 rfl (lv_at hl 1 rfl) ?_
  refine lv_istore_n (lv' := [(2, .int x0), (1, .int (0 : Int32)), (0, .int x0)]) hx hb dX4_bits_3 rfl hl (by decide) rfl (fun ls hl => ?_)
  refine k_bind hf (fun b2 hb2 hf => ?_)
  refine wLX4_bits_4 S hb2 ?_ _ (lv_sub (l' := [(1, .int (0 : Int32)), (2, .int x0)]) hl [1, 0] rfl)
  · intro b eb; subst eb; intro ls hl
    refine lv_iload_n hx hb dX4_bits_20 rfl (lv_at hl 0 rfl) ?_
    obtain rfl := Option.some.inj hf
    exact s_iret S rfl dX4_bits_21

noncomputable def JX4_cost_18 (y0 : Int32) (y1 : Int32) (y2 : Int32) (y3 : Int32) (z0 : Int32) : Int32 :=
  if y0 = (1 : Int32) then (y1 + y2) else if y0 = (2 : Int32) then ((2 : Int32) * y1) else if y0 = (3 : Int32) then z0 else if y0 = (4 : Int32) then (((2 : Int32) * y1) + y3) else if y0 = (5 : Int32) then ((z0 / (2 : Int32)) + (1 : Int32)) else y1
noncomputable def fX4_cost (x0 : Int32) (x1 : Int32) (x2 : Int32) (x3 : Int32) : Int32 :=
  if (1 : Int32) ≤ ((x1 + x2) - (2 : Int32)) then JX4_cost_18 x0 x1 x2 x3 ((x1 + x2) - (2 : Int32)) else JX4_cost_18 x0 x1 x2 x3 (1 : Int32)
theorem wi_X4_cost : wInfS yX4_cost cX4_cost 5 (Option.some Jvm.ClassFile.FieldType.int) 4 := ⟨q2716, q116, q2717, (by decide +kernel), (by decide +kernel), (by decide +kernel)⟩
set_option maxHeartbeats 4000000 in
set_option maxRecDepth 100000 in
theorem wJX4_cost_18 {l : Launch} {p : Program} {e : Env} {s : State} {m : MethodId} {args : Array Value} {below : List Frame} {meth : Method} {c : Code} {y0 : Int32} {y1 : Int32} {y2 : Int32} {y3 : Int32} {z0 : Int32} {res : Int32} (S : wSt RX4 p m c cX4_cost 5 s args meth (Option.some Jvm.ClassFile.FieldType.int)) (hf : JX4_cost_18 y0 y1 y2 y3 z0 = res) : ∀ (ls : Array Slot), lv_has ls 5 [(0, .int y0), (1, .int y1), (2, .int y2), (3, .int y3)] → W p l e (mRm 0 0) s m args below meth c s.heap [] 0 0 (MQ below (sQ (some (.int res))) args s 0 0 (fun _ => False)) (F0 m 18 ls [.int z0]) := by
  replace hf : (if y0 = (1 : Int32) then (y1 + y2) else if y0 = (2 : Int32) then ((2 : Int32) * y1) else if y0 = (3 : Int32) then z0 else if y0 = (4 : Int32) then (((2 : Int32) * y1) + y3) else if y0 = (5 : Int32) then ((z0 / (2 : Int32)) + (1 : Int32)) else y1) = res := hf
  obtain ⟨hx, hb, hml, hown, hts⟩ := S.1
  intro ls hl
  refine lv_istore (lv' := [(4, .int z0), (0, .int y0), (1, .int y1), (2, .int y2), (3, .int y3)]) hx hb dX4_cost_18 hl (by decide) rfl (fun ls hl => ?_)
  refine lv_iload_n hx hb dX4_cost_20 rfl (lv_at hl 1 rfl) ?_
  by_cases c_21_0 : y0 = (1 : Int32)
  · replace hf := o_t hf c_21_0
    refine lv_tableIn (tgt := 56) hx hb dX4_cost_21 (by rw [c_21_0]; decide) (by rw [c_21_0]; decide) (by rw [c_21_0]; rfl) (by decide) ?_
    refine lv_iload_n hx hb dX4_cost_56 rfl (lv_at hl 2 rfl) ?_
    refine lv_iload_n hx hb dX4_cost_57 rfl (lv_at hl 3 rfl) ?_
    refine lv_iadd hx hb dX4_cost_58 ?_
    subst hf
    exact s_iret S rfl dX4_cost_59
  replace hf := o_f hf c_21_0
  by_cases c_21_1 : y0 = (2 : Int32)
  · replace hf := o_t hf c_21_1
    refine lv_tableIn (tgt := 60) hx hb dX4_cost_21 (by rw [c_21_1]; decide) (by rw [c_21_1]; decide) (by rw [c_21_1]; rfl) (by decide) ?_
    refine lv_iconst (v := 2) hx hb dX4_cost_60 (by decide) ?_
    refine lv_iload_n hx hb dX4_cost_61 rfl (lv_at hl 2 rfl) ?_
    refine lv_imul hx hb dX4_cost_62 ?_
    subst hf
    exact s_iret S rfl dX4_cost_63
  replace hf := o_f hf c_21_1
  by_cases c_21_2 : y0 = (3 : Int32)
  · replace hf := o_t hf c_21_2
    refine lv_tableIn (tgt := 64) hx hb dX4_cost_21 (by rw [c_21_2]; decide) (by rw [c_21_2]; decide) (by rw [c_21_2]; rfl) (by decide) ?_
    refine lv_iload hx hb dX4_cost_64 (lv_at hl 0 rfl) ?_
    subst hf
    exact s_iret S rfl dX4_cost_66
  replace hf := o_f hf c_21_2
  by_cases c_21_3 : y0 = (4 : Int32)
  · replace hf := o_t hf c_21_3
    refine lv_tableIn (tgt := 67) hx hb dX4_cost_21 (by rw [c_21_3]; decide) (by rw [c_21_3]; decide) (by rw [c_21_3]; rfl) (by decide) ?_
    refine lv_iconst (v := 2) hx hb dX4_cost_67 (by decide) ?_
    refine lv_iload_n hx hb dX4_cost_68 rfl (lv_at hl 2 rfl) ?_
    refine lv_imul hx hb dX4_cost_69 ?_
    refine lv_iload_n hx hb dX4_cost_70 rfl (lv_at hl 4 rfl) ?_
    refine lv_iadd hx hb dX4_cost_71 ?_
    subst hf
    exact s_iret S rfl dX4_cost_72
  replace hf := o_f hf c_21_3
  by_cases c_21_4 : y0 = (5 : Int32)
  · replace hf := o_t hf c_21_4
    refine lv_tableIn (tgt := 73) hx hb dX4_cost_21 (by rw [c_21_4]; decide) (by rw [c_21_4]; decide) (by rw [c_21_4]; rfl) (by decide) ?_
    refine lv_iload hx hb dX4_cost_73 (lv_at hl 0 rfl) ?_
    refine lv_iconst (v := 2) hx hb dX4_cost_75 (by decide) ?_
    refine lv_idiv hx hb dX4_cost_76 (by decide) ?_
    refine lv_iconst (v := 1) hx hb dX4_cost_77 (by decide) ?_
    refine lv_iadd hx hb dX4_cost_78 ?_
    subst hf
    exact s_iret S rfl dX4_cost_79
  replace hf := o_f hf c_21_4
  refine lv_tableOut (tgt := 80) hx hb dX4_cost_21 (by have t0 := lv_neT c_21_0 (a := 1) rfl; have t1 := lv_neT c_21_1 (a := 2) rfl; have t2 := lv_neT c_21_2 (a := 3) rfl; have t3 := lv_neT c_21_3 (a := 4) rfl; have t4 := lv_neT c_21_4 (a := 5) rfl; omega) (by decide) ?_
  refine lv_iload_n hx hb dX4_cost_80 rfl (lv_at hl 2 rfl) ?_
  subst hf
  exact s_iret S rfl dX4_cost_81
set_option maxHeartbeats 4000000 in
set_option maxRecDepth 100000 in
theorem met_X4_cost {l : Launch} {x0 : Int32} {x1 : Int32} {x2 : Int32} {x3 : Int32} {res : Int32} (hf : fX4_cost x0 x1 x2 x3 = res) : sMet l yX4_cost cX4_cost 5 (Option.some Jvm.ClassFile.FieldType.int) (mRm 0 0) [.int x0, .int x1, .int x2, .int x3] (some (.int res)) := by
  replace hf : (if (1 : Int32) ≤ ((x1 + x2) - (2 : Int32)) then JX4_cost_18 x0 x1 x2 x3 ((x1 + x2) - (2 : Int32)) else JX4_cost_18 x0 x1 x2 x3 (1 : Int32)) = res := hf
  refine s_start (by decide) (Nat.le_of_ble_eq_true rfl) ?_
  intro p e s m args below meth c S ls hl
  obtain ⟨hx, hb, hml, hown, hts⟩ := S.1
  have hl : lv_has ls 5 [(0, .int x0), (1, .int x1), (2, .int x2), (3, .int x3)] := hl
  refine lv_iload_n hx hb dX4_cost_0 rfl (lv_at hl 1 rfl) ?_
  refine lv_iload_n hx hb dX4_cost_1 rfl (lv_at hl 2 rfl) ?_
  refine lv_iadd hx hb dX4_cost_2 ?_
  refine lv_iconst (v := 2) hx hb dX4_cost_3 (by decide) ?_
  refine lv_isub hx hb dX4_cost_4 ?_
  refine lv_iconst (v := 1) hx hb dX4_cost_5 (by decide) ?_
  refine lv_icmp_ge (tgt := 13) hx hb dX4_cost_6 (by decide) (fun c_6 => ?_) (fun c_6 => ?_)
  · replace hf := o_t hf c_6
    refine lv_iload_n hx hb dX4_cost_13 rfl (lv_at hl 1 rfl) ?_
    refine lv_iload_n hx hb dX4_cost_14 rfl (lv_at hl 2 rfl) ?_
    refine lv_iadd hx hb dX4_cost_15 ?_
    refine lv_iconst (v := 2) hx hb dX4_cost_16 (by decide) ?_
    refine lv_isub hx hb dX4_cost_17 ?_
    exact wJX4_cost_18 S hf _ hl
  · replace hf := o_f hf c_6
    refine lv_iconst (v := 1) hx hb dX4_cost_9 (by decide) ?_
    refine lv_goto (tgt := 18) hx hb dX4_cost_10 (by decide) ?_
    exact wJX4_cost_18 S hf _ hl

noncomputable def fX4_costAt (x1 : Int32) (σ : mS) : Option Int32 :=
  (mald σ 2 x1).bind (fun v1 => (mald σ 3 x1).bind (fun v2 => (mald σ 4 x1).bind (fun v3 => (fX4_bits v3).bind (fun v4 => some (fX4_cost v1 v2 v4 x1)))))
theorem wi_X4_costAt : wInfV yX4_costAt cX4_costAt 2 (Option.some Jvm.ClassFile.FieldType.int) 1 := ⟨q2710, qs61, q116, q2711, (by decide +kernel), (by decide +kernel), (by decide +kernel)⟩
set_option maxHeartbeats 4000000 in
set_option maxRecDepth 100000 in
theorem met_X4_costAt {l : Launch} {G : mG} {x1 : Int32} {σ : mS} {res : Int32} (hf : fX4_costAt x1 σ = some res) : mMet l yX4_costAt cX4_costAt 2 (Option.some Jvm.ClassFile.FieldType.int) (mRm 1 24) G [.ref (mo G), .int x1] σ (some (.int res)) σ := by
  replace hf : ((mald σ 2 x1).bind (fun v1 => (mald σ 3 x1).bind (fun v2 => (mald σ 4 x1).bind (fun v3 => (fX4_bits v3).bind (fun v4 => some (fX4_cost v1 v2 v4 x1)))))) = some res := hf
  refine m_start (by decide) rfl (Nat.le_of_ble_eq_true rfl) ?_
  intro p e s m args below meth c S hR hS ls hl
  obtain ⟨hx, hb, hml, hown, hts⟩ := S.1.1
  have hl : lv_has ls 2 [(0, .ref (mo G)), (1, .int x1)] := hl
  refine lv_aload_n hx hb dX4_costAt_0 rfl (lv_at hl 0 rfl) ?_
  refine m_geta (k := 2) S hR (by decide) (by decide) q2528 dX4_costAt_1 ?_
  refine lv_iload_n hx hb dX4_costAt_4 rfl (lv_at hl 1 rfl) ?_
  refine k_bind hf (fun v1 hv1 hf => ?_)
  refine m_iald S hR hv1 dX4_costAt_5 ?_
  refine lv_aload_n hx hb dX4_costAt_6 rfl (lv_at hl 0 rfl) ?_
  refine m_geta (k := 3) S hR (by decide) (by decide) q2529 dX4_costAt_7 ?_
  refine lv_iload_n hx hb dX4_costAt_10 rfl (lv_at hl 1 rfl) ?_
  refine k_bind hf (fun v2 hv2 hf => ?_)
  refine m_iald S hR hv2 dX4_costAt_11 ?_
  refine lv_aload_n hx hb dX4_costAt_12 rfl (lv_at hl 0 rfl) ?_
  refine m_geta (k := 4) S hR (by decide) (by decide) q2530 dX4_costAt_13 ?_
  refine lv_iload_n hx hb dX4_costAt_16 rfl (lv_at hl 1 rfl) ?_
  refine k_bind hf (fun v3 hv3 hf => ?_)
  refine m_iald S hR hv3 dX4_costAt_17 ?_
  refine k_bind hf (fun v4 hv4 hf => ?_)
  refine s_call (As := [.int v3]) (rest := [.int v2, .int v1]) S.1.1 (met_X4_bits hv4) wi_X4_bits q2712 ⟨rfl, rfl⟩ ⟨Nat.le_of_ble_eq_true rfl, Nat.le_of_ble_eq_true rfl⟩ rfl hl.1 rfl (Nat.le_of_ble_eq_true rfl) dX4_costAt_18 ⟨Nat.zero_le _, Nat.zero_le _⟩ ?_
  refine lv_iload_n hx hb dX4_costAt_21 rfl (lv_at hl 1 rfl) ?_
  refine s_call (As := [.int v1, .int v2, .int v4, .int x1]) (rest := []) S.1.1 (met_X4_cost rfl) wi_X4_cost q2715 ⟨rfl, rfl⟩ ⟨Nat.le_of_ble_eq_true rfl, Nat.le_of_ble_eq_true rfl⟩ rfl hl.1 rfl (Nat.le_of_ble_eq_true rfl) dX4_costAt_22 ⟨Nat.zero_le _, Nat.zero_le _⟩ ?_
  obtain rfl := Option.some.inj hf
  exact m_iret S hR hS rfl dX4_costAt_25

noncomputable def fX4_pointOf (x1 : Int32) (x2 : Int32) (σ : mS) : Option Int32 :=
  if (fX4_isPoint x1 σ) = (0 : Int32) then some (-2 : Int32) else if x2 = (0 : Int32) then (mald σ 2 x1).bind (fun v1 => some v1) else if x2 = (1 : Int32) then (mald σ 3 x1).bind (fun v2 => some v2) else if x2 = (2 : Int32) then (fX4_costAt x1 σ).bind (fun v3 => some v3) else if x2 = (3 : Int32) then (mald σ 4 x1).bind (fun v4 => some v4) else if x2 = (4 : Int32) then (mald σ 4 x1).bind (fun v5 => (fX4_bits v5).bind (fun v6 => some v6)) else some (-2 : Int32)
theorem wi_X4_pointOf : wInfV yX4_pointOf cX4_pointOf 3 (Option.some Jvm.ClassFile.FieldType.int) 2 := ⟨q2705, q2706, q116, q2707, (by decide +kernel), (by decide +kernel), (by decide +kernel)⟩
set_option maxHeartbeats 4000000 in
set_option maxRecDepth 100000 in
theorem met_X4_pointOf {l : Launch} {G : mG} {x1 : Int32} {x2 : Int32} {σ : mS} {res : Int32} (hf : fX4_pointOf x1 x2 σ = some res) : mMet l yX4_pointOf cX4_pointOf 3 (Option.some Jvm.ClassFile.FieldType.int) (mRm 2 45) G [.ref (mo G), .int x1, .int x2] σ (some (.int res)) σ := by
  replace hf : (if (fX4_isPoint x1 σ) = (0 : Int32) then some (-2 : Int32) else if x2 = (0 : Int32) then (mald σ 2 x1).bind (fun v1 => some v1) else if x2 = (1 : Int32) then (mald σ 3 x1).bind (fun v2 => some v2) else if x2 = (2 : Int32) then (fX4_costAt x1 σ).bind (fun v3 => some v3) else if x2 = (3 : Int32) then (mald σ 4 x1).bind (fun v4 => some v4) else if x2 = (4 : Int32) then (mald σ 4 x1).bind (fun v5 => (fX4_bits v5).bind (fun v6 => some v6)) else some (-2 : Int32)) = some res := hf
  refine m_start (by decide) rfl (Nat.le_of_ble_eq_true rfl) ?_
  intro p e s m args below meth c S hR hS ls hl
  obtain ⟨hx, hb, hml, hown, hts⟩ := S.1.1
  have hl : lv_has ls 3 [(0, .ref (mo G)), (1, .int x1), (2, .int x2)] := hl
  refine lv_aload_n hx hb dX4_pointOf_0 rfl (lv_at hl 0 rfl) ?_
  refine lv_iload_n hx hb dX4_pointOf_1 rfl (lv_at hl 1 rfl) ?_
  refine m_call (As := [.int x1]) (rest := []) S hR hS (met_X4_isPoint rfl) wi_X4_isPoint rfl q2696 ⟨rfl, rfl⟩ ⟨Nat.le_of_ble_eq_true rfl, Nat.le_of_ble_eq_true rfl⟩ rfl hl.1 rfl (Nat.le_of_ble_eq_true rfl) dX4_pointOf_2 (fun H locs hR hS => ?_)
  refine lv_if_ne (tgt := 11) hx hb dX4_pointOf_5 (by decide) (fun c_5 => ?_) (fun c_5 => ?_)
  · replace hf := o_f hf c_5
    refine lv_iload_n hx hb dX4_pointOf_11 rfl (lv_at hl 2 rfl) ?_
    by_cases c_12_0 : x2 = (0 : Int32)
    · replace hf := o_t hf c_12_0
      refine lv_tableIn (tgt := 48) hx hb dX4_pointOf_12 (by rw [c_12_0]; decide) (by rw [c_12_0]; decide) (by rw [c_12_0]; rfl) (by decide) ?_
      refine lv_aload_n hx hb dX4_pointOf_48 rfl (lv_at hl 0 rfl) ?_
      refine m_geta (k := 2) S hR (by decide) (by decide) q2528 dX4_pointOf_49 ?_
      refine lv_iload_n hx hb dX4_pointOf_52 rfl (lv_at hl 1 rfl) ?_
      refine k_bind hf (fun v1 hv1 hf => ?_)
      refine m_iald S hR hv1 dX4_pointOf_53 ?_
      obtain rfl := Option.some.inj hf
      exact m_iret S hR hS rfl dX4_pointOf_54
    replace hf := o_f hf c_12_0
    by_cases c_12_1 : x2 = (1 : Int32)
    · replace hf := o_t hf c_12_1
      refine lv_tableIn (tgt := 55) hx hb dX4_pointOf_12 (by rw [c_12_1]; decide) (by rw [c_12_1]; decide) (by rw [c_12_1]; rfl) (by decide) ?_
      refine lv_aload_n hx hb dX4_pointOf_55 rfl (lv_at hl 0 rfl) ?_
      refine m_geta (k := 3) S hR (by decide) (by decide) q2529 dX4_pointOf_56 ?_
      refine lv_iload_n hx hb dX4_pointOf_59 rfl (lv_at hl 1 rfl) ?_
      refine k_bind hf (fun v2 hv2 hf => ?_)
      refine m_iald S hR hv2 dX4_pointOf_60 ?_
      obtain rfl := Option.some.inj hf
      exact m_iret S hR hS rfl dX4_pointOf_61
    replace hf := o_f hf c_12_1
    by_cases c_12_2 : x2 = (2 : Int32)
    · replace hf := o_t hf c_12_2
      refine lv_tableIn (tgt := 62) hx hb dX4_pointOf_12 (by rw [c_12_2]; decide) (by rw [c_12_2]; decide) (by rw [c_12_2]; rfl) (by decide) ?_
      refine lv_aload_n hx hb dX4_pointOf_62 rfl (lv_at hl 0 rfl) ?_
      refine lv_iload_n hx hb dX4_pointOf_63 rfl (lv_at hl 1 rfl) ?_
      refine k_bind hf (fun v3 hv3 hf => ?_)
      refine m_call (As := [.int x1]) (rest := []) S hR hS (met_X4_costAt hv3) wi_X4_costAt rfl q2708 ⟨rfl, rfl⟩ ⟨Nat.le_of_ble_eq_true rfl, Nat.le_of_ble_eq_true rfl⟩ rfl hl.1 rfl (Nat.le_of_ble_eq_true rfl) dX4_pointOf_64 (fun H locs hR hS => ?_)
      obtain rfl := Option.some.inj hf
      exact m_iret S hR hS rfl dX4_pointOf_67
    replace hf := o_f hf c_12_2
    by_cases c_12_3 : x2 = (3 : Int32)
    · replace hf := o_t hf c_12_3
      refine lv_tableIn (tgt := 68) hx hb dX4_pointOf_12 (by rw [c_12_3]; decide) (by rw [c_12_3]; decide) (by rw [c_12_3]; rfl) (by decide) ?_
      refine lv_aload_n hx hb dX4_pointOf_68 rfl (lv_at hl 0 rfl) ?_
      refine m_geta (k := 4) S hR (by decide) (by decide) q2530 dX4_pointOf_69 ?_
      refine lv_iload_n hx hb dX4_pointOf_72 rfl (lv_at hl 1 rfl) ?_
      refine k_bind hf (fun v4 hv4 hf => ?_)
      refine m_iald S hR hv4 dX4_pointOf_73 ?_
      obtain rfl := Option.some.inj hf
      exact m_iret S hR hS rfl dX4_pointOf_74
    replace hf := o_f hf c_12_3
    by_cases c_12_4 : x2 = (4 : Int32)
    · replace hf := o_t hf c_12_4
      refine lv_tableIn (tgt := 75) hx hb dX4_pointOf_12 (by rw [c_12_4]; decide) (by rw [c_12_4]; decide) (by rw [c_12_4]; rfl) (by decide) ?_
      refine lv_aload_n hx hb dX4_pointOf_75 rfl (lv_at hl 0 rfl) ?_
      refine m_geta (k := 4) S hR (by decide) (by decide) q2530 dX4_pointOf_76 ?_
      refine lv_iload_n hx hb dX4_pointOf_79 rfl (lv_at hl 1 rfl) ?_
      refine k_bind hf (fun v5 hv5 hf => ?_)
      refine m_iald S hR hv5 dX4_pointOf_80 ?_
      refine k_bind hf (fun v6 hv6 hf => ?_)
      refine s_call (As := [.int v5]) (rest := []) S.1.1 (met_X4_bits hv6) wi_X4_bits q2712 ⟨rfl, rfl⟩ ⟨Nat.le_of_ble_eq_true rfl, Nat.le_of_ble_eq_true rfl⟩ rfl hl.1 rfl (Nat.le_of_ble_eq_true rfl) dX4_pointOf_81 ⟨Nat.zero_le _, Nat.zero_le _⟩ ?_
      obtain rfl := Option.some.inj hf
      exact m_iret S hR hS rfl dX4_pointOf_84
    replace hf := o_f hf c_12_4
    refine lv_tableOut (tgt := 85) hx hb dX4_pointOf_12 (by have t0 := lv_neT c_12_0 (a := 0) rfl; have t1 := lv_neT c_12_1 (a := 1) rfl; have t2 := lv_neT c_12_2 (a := 2) rfl; have t3 := lv_neT c_12_3 (a := 3) rfl; have t4 := lv_neT c_12_4 (a := 4) rfl; omega) (by decide) ?_
    refine lv_bipush (v := -2) hx hb dX4_pointOf_85 (by decide) ?_
    obtain rfl := Option.some.inj hf
    exact m_iret S hR hS rfl dX4_pointOf_87
  · replace hf := o_t hf c_5
    refine lv_bipush (v := -2) hx hb dX4_pointOf_8 (by decide) ?_
    obtain rfl := Option.some.inj hf
    exact m_iret S hR hS rfl dX4_pointOf_10

noncomputable def JX4_change_57 (y1 : Int32) (y2 : Int32) (y3 : Int32) (z0 : Int32) (σ : mS) : Option (Int32 × mS) :=
  if y2 = (0 : Int32) then (mast σ 2 y1 y3).bind (fun σ3 => some (z0, σ3)) else (mast σ 3 y1 y3).bind (fun σ2 => some (z0, σ2))
noncomputable def JX4_change_29 (y1 : Int32) (y2 : Int32) (y3 : Int32) (z0 : Int32) (z1 : Int32) (z2 : Int32) (σ : mS) : Option (Int32 × mS) :=
  if (fX4_in z2 z1 z0) = (0 : Int32) then some ((-2 : Int32), σ) else if y2 = (0 : Int32) then (mald σ 2 y1).bind (fun v4 => JX4_change_57 y1 y2 y3 v4 σ) else (mald σ 3 y1).bind (fun v1 => JX4_change_57 y1 y2 y3 v1 σ)
noncomputable def fX4_change (x1 : Int32) (x2 : Int32) (x3 : Int32) (σ : mS) : Option (Int32 × mS) :=
  if (fX4_isPoint x1 σ) = (0 : Int32) then some ((-2 : Int32), σ) else if (fX4_in x2 (0 : Int32) (1 : Int32)) = (0 : Int32) then some ((-2 : Int32), σ) else if x2 = (0 : Int32) then JX4_change_29 x1 x2 x3 (5 : Int32) x2 x3 σ else JX4_change_29 x1 x2 x3 (9 : Int32) x2 x3 σ
theorem wi_X4_change : wInfV yX4_change cX4_change 5 (Option.some Jvm.ClassFile.FieldType.int) 3 := ⟨q2719, q2720, q116, q2721, (by decide +kernel), (by decide +kernel), (by decide +kernel)⟩
set_option maxHeartbeats 4000000 in
set_option maxRecDepth 100000 in
theorem wJX4_change_57 {l : Launch} {G : mG} {p : Program} {e : Env} {s : State} {m : MethodId} {args : Array Value} {below : List Frame} {meth : Method} {c : Code} {y1 : Int32} {y2 : Int32} {y3 : Int32} {z0 : Int32} {σ : mS} {res : Int32 × mS} (S : mSt G p m c cX4_change 5 s args meth (Option.some Jvm.ClassFile.FieldType.int)) (hf : JX4_change_57 y1 y2 y3 z0 σ = some res) : ∀ (H : Heap) (locs : List Loc) (ls : Array Slot), mR G σ H → va_S (mA G) s.heap H locs → lv_has ls 5 [(0, .ref (mo G)), (1, .int y1), (2, .int y2), (3, .int y3)] → W p l e (mRm 2 43) s m args below meth c H locs 0 0 (MQ below (mQ G (some (.int res.1)) res.2) args s 0 0 (mA G)) (F0 m 57 ls [.int z0]) := by
  replace hf : (if y2 = (0 : Int32) then (mast σ 2 y1 y3).bind (fun σ3 => some (z0, σ3)) else (mast σ 3 y1 y3).bind (fun σ2 => some (z0, σ2))) = some res := hf
  obtain ⟨hx, hb, hml, hown, hts⟩ := S.1.1
  intro H locs ls hR hS hl
  refine lv_istore (lv' := [(4, .int z0), (0, .ref (mo G)), (1, .int y1), (2, .int y2), (3, .int y3)]) hx hb dX4_change_57 hl (by decide) rfl (fun ls hl => ?_)
  refine lv_iload_n hx hb dX4_change_59 rfl (lv_at hl 3 rfl) ?_
  refine lv_if_ne (tgt := 73) hx hb dX4_change_60 (by decide) (fun c_60 => ?_) (fun c_60 => ?_)
  · replace hf := o_f hf c_60
    refine lv_aload_n hx hb dX4_change_73 rfl (lv_at hl 1 rfl) ?_
    refine m_geta (k := 3) S hR (by decide) (by decide) q2529 dX4_change_74 ?_
    refine lv_iload_n hx hb dX4_change_77 rfl (lv_at hl 2 rfl) ?_
    refine lv_iload_n hx hb dX4_change_78 rfl (lv_at hl 4 rfl) ?_
    refine k_bind hf (fun σ2 hσ2 hf => ?_)
    refine m_iast S hR hS hσ2 dX4_change_79 (fun H locs hR hS => ?_)
    refine lv_iload hx hb dX4_change_80 (lv_at hl 0 rfl) ?_
    obtain rfl := Option.some.inj hf
    exact m_iret S hR hS rfl dX4_change_82
  · replace hf := o_t hf c_60
    refine lv_aload_n hx hb dX4_change_63 rfl (lv_at hl 1 rfl) ?_
    refine m_geta (k := 2) S hR (by decide) (by decide) q2528 dX4_change_64 ?_
    refine lv_iload_n hx hb dX4_change_67 rfl (lv_at hl 2 rfl) ?_
    refine lv_iload_n hx hb dX4_change_68 rfl (lv_at hl 4 rfl) ?_
    refine k_bind hf (fun σ3 hσ3 hf => ?_)
    refine m_iast S hR hS hσ3 dX4_change_69 (fun H locs hR hS => ?_)
    refine lv_goto (tgt := 80) hx hb dX4_change_70 (by decide) ?_
    refine lv_iload hx hb dX4_change_80 (lv_at hl 0 rfl) ?_
    obtain rfl := Option.some.inj hf
    exact m_iret S hR hS rfl dX4_change_82
set_option maxHeartbeats 4000000 in
set_option maxRecDepth 100000 in
theorem wJX4_change_29 {l : Launch} {G : mG} {p : Program} {e : Env} {s : State} {m : MethodId} {args : Array Value} {below : List Frame} {meth : Method} {c : Code} {y1 : Int32} {y2 : Int32} {y3 : Int32} {z0 : Int32} {z1 : Int32} {z2 : Int32} {σ : mS} {res : Int32 × mS} (S : mSt G p m c cX4_change 5 s args meth (Option.some Jvm.ClassFile.FieldType.int)) (hf : JX4_change_29 y1 y2 y3 z0 z1 z2 σ = some res) : ∀ (H : Heap) (locs : List Loc) (ls : Array Slot), mR G σ H → va_S (mA G) s.heap H locs → lv_has ls 5 [(0, .ref (mo G)), (1, .int y1), (2, .int y2), (3, .int y3)] → W p l e (mRm 2 43) s m args below meth c H locs 0 0 (MQ below (mQ G (some (.int res.1)) res.2) args s 0 0 (mA G)) (F0 m 29 ls [.int z0, .int z1, .int z2]) := by
  replace hf : (if (fX4_in z2 z1 z0) = (0 : Int32) then some ((-2 : Int32), σ) else if y2 = (0 : Int32) then (mald σ 2 y1).bind (fun v4 => JX4_change_57 y1 y2 y3 v4 σ) else (mald σ 3 y1).bind (fun v1 => JX4_change_57 y1 y2 y3 v1 σ)) = some res := hf
  obtain ⟨hx, hb, hml, hown, hts⟩ := S.1.1
  intro H locs ls hR hS hl
  refine s_call (As := [.int z2, .int z1, .int z0]) (rest := []) S.1.1 (met_X4_in rfl) wi_X4_in q2681 ⟨rfl, rfl⟩ ⟨Nat.le_of_ble_eq_true rfl, Nat.le_of_ble_eq_true rfl⟩ rfl hl.1 rfl (Nat.le_of_ble_eq_true rfl) dX4_change_29 ⟨Nat.zero_le _, Nat.zero_le _⟩ ?_
  refine lv_if_ne (tgt := 38) hx hb dX4_change_32 (by decide) (fun c_32 => ?_) (fun c_32 => ?_)
  · replace hf := o_f hf c_32
    refine lv_iload_n hx hb dX4_change_38 rfl (lv_at hl 2 rfl) ?_
    refine lv_if_ne (tgt := 51) hx hb dX4_change_39 (by decide) (fun c_39 => ?_) (fun c_39 => ?_)
    · replace hf := o_f hf c_39
      refine lv_aload_n hx hb dX4_change_51 rfl (lv_at hl 0 rfl) ?_
      refine m_geta (k := 3) S hR (by decide) (by decide) q2529 dX4_change_52 ?_
      refine lv_iload_n hx hb dX4_change_55 rfl (lv_at hl 1 rfl) ?_
      refine k_bind hf (fun v1 hv1 hf => ?_)
      refine m_iald S hR hv1 dX4_change_56 ?_
      exact wJX4_change_57 S hf _ _ _ hR hS hl
    · replace hf := o_t hf c_39
      refine lv_aload_n hx hb dX4_change_42 rfl (lv_at hl 0 rfl) ?_
      refine m_geta (k := 2) S hR (by decide) (by decide) q2528 dX4_change_43 ?_
      refine lv_iload_n hx hb dX4_change_46 rfl (lv_at hl 1 rfl) ?_
      refine k_bind hf (fun v4 hv4 hf => ?_)
      refine m_iald S hR hv4 dX4_change_47 ?_
      refine lv_goto (tgt := 57) hx hb dX4_change_48 (by decide) ?_
      exact wJX4_change_57 S hf _ _ _ hR hS hl
  · replace hf := o_t hf c_32
    refine lv_bipush (v := -2) hx hb dX4_change_35 (by decide) ?_
    obtain rfl := Option.some.inj hf
    exact m_iret S hR hS rfl dX4_change_37
set_option maxHeartbeats 4000000 in
set_option maxRecDepth 100000 in
theorem met_X4_change {l : Launch} {G : mG} {x1 : Int32} {x2 : Int32} {x3 : Int32} {σ : mS} {res : Int32 × mS} (hf : fX4_change x1 x2 x3 σ = some res) : mMet l yX4_change cX4_change 5 (Option.some Jvm.ClassFile.FieldType.int) (mRm 2 43) G [.ref (mo G), .int x1, .int x2, .int x3] σ (some (.int res.1)) res.2 := by
  replace hf : (if (fX4_isPoint x1 σ) = (0 : Int32) then some ((-2 : Int32), σ) else if (fX4_in x2 (0 : Int32) (1 : Int32)) = (0 : Int32) then some ((-2 : Int32), σ) else if x2 = (0 : Int32) then JX4_change_29 x1 x2 x3 (5 : Int32) x2 x3 σ else JX4_change_29 x1 x2 x3 (9 : Int32) x2 x3 σ) = some res := hf
  refine m_start (by decide) rfl (Nat.le_of_ble_eq_true rfl) ?_
  intro p e s m args below meth c S hR hS ls hl
  obtain ⟨hx, hb, hml, hown, hts⟩ := S.1.1
  have hl : lv_has ls 5 [(0, .ref (mo G)), (1, .int x1), (2, .int x2), (3, .int x3)] := hl
  refine lv_aload_n hx hb dX4_change_0 rfl (lv_at hl 0 rfl) ?_
  refine lv_iload_n hx hb dX4_change_1 rfl (lv_at hl 1 rfl) ?_
  refine m_call (As := [.int x1]) (rest := []) S hR hS (met_X4_isPoint rfl) wi_X4_isPoint rfl q2696 ⟨rfl, rfl⟩ ⟨Nat.le_of_ble_eq_true rfl, Nat.le_of_ble_eq_true rfl⟩ rfl hl.1 rfl (Nat.le_of_ble_eq_true rfl) dX4_change_2 (fun H locs hR hS => ?_)
  refine lv_if_eq (tgt := 35) hx hb dX4_change_5 (by decide) (fun c_5 => ?_) (fun c_5 => ?_)
  · replace hf := o_t hf c_5
    refine lv_bipush (v := -2) hx hb dX4_change_35 (by decide) ?_
    obtain rfl := Option.some.inj hf
    exact m_iret S hR hS rfl dX4_change_37
  · replace hf := o_f hf c_5
    refine lv_iload_n hx hb dX4_change_8 rfl (lv_at hl 2 rfl) ?_
    refine lv_iconst (v := 0) hx hb dX4_change_9 (by decide) ?_
    refine lv_iconst (v := 1) hx hb dX4_change_10 (by decide) ?_
    refine s_call (As := [.int x2, .int (0 : Int32), .int (1 : Int32)]) (rest := []) S.1.1 (met_X4_in rfl) wi_X4_in q2681 ⟨rfl, rfl⟩ ⟨Nat.le_of_ble_eq_true rfl, Nat.le_of_ble_eq_true rfl⟩ rfl hl.1 rfl (Nat.le_of_ble_eq_true rfl) dX4_change_11 ⟨Nat.zero_le _, Nat.zero_le _⟩ ?_
    refine lv_if_eq (tgt := 35) hx hb dX4_change_14 (by decide) (fun c_14 => ?_) (fun c_14 => ?_)
    · replace hf := o_t hf c_14
      refine lv_bipush (v := -2) hx hb dX4_change_35 (by decide) ?_
      obtain rfl := Option.some.inj hf
      exact m_iret S hR hS rfl dX4_change_37
    · replace hf := o_f hf c_14
      refine lv_iload_n hx hb dX4_change_17 rfl (lv_at hl 3 rfl) ?_
      refine lv_iload_n hx hb dX4_change_18 rfl (lv_at hl 2 rfl) ?_
      refine lv_iload_n hx hb dX4_change_19 rfl (lv_at hl 2 rfl) ?_
      refine lv_if_ne (tgt := 27) hx hb dX4_change_20 (by decide) (fun c_20 => ?_) (fun c_20 => ?_)
      · replace hf := o_f hf c_20
        refine lv_bipush (v := 9) hx hb dX4_change_27 (by decide) ?_
        exact wJX4_change_29 S hf _ _ _ hR hS hl
      · replace hf := o_t hf c_20
        refine lv_iconst (v := 5) hx hb dX4_change_23 (by decide) ?_
        refine lv_goto (tgt := 29) hx hb dX4_change_24 (by decide) ?_
        exact wJX4_change_29 S hf _ _ _ hR hS hl

noncomputable def LX4_lineMany_4 (σ : mS) (q : Int32 × Int32) : Option ((Int32 × Int32) ⊕ (Int32)) :=
  if (σ.1 0) ≤ q.2 then some (Sum.inr q.1) else (mald σ 4 q.2).bind (fun v1 => (fX4_bits v1).bind (fun v2 => (some (q.1 + v2)).bind (fun v3 => some (Sum.inl (v3, q.2 + (1 : Int32))))))
noncomputable def fX4_lineMany (σ : mS) : Option Int32 :=
  (lpw (LX4_lineMany_4 σ) ((0 : Int32), (0 : Int32))).bind (fun b4 => some (b4 / (2 : Int32)))
theorem wi_X4_lineMany : wInfV yX4_lineMany cX4_lineMany 3 (Option.some Jvm.ClassFile.FieldType.int) 0 := ⟨q2728, qs62, q116, q2729, (by decide +kernel), (by decide +kernel), (by decide +kernel)⟩
set_option maxHeartbeats 4000000 in
set_option maxRecDepth 100000 in
theorem wbLX4_lineMany_4 {l : Launch} {G : mG} {p : Program} {e : Env} {s : State} {m : MethodId} {args : Array Value} {below : List Frame} {meth : Method} {c : Code} {Q : State → Prop} {σ : mS} {q : Int32 × Int32} {res : (Int32 × Int32) ⊕ (Int32)} (S : mSt G p m c cX4_lineMany 3 s args meth (Option.some Jvm.ClassFile.FieldType.int)) (hf : LX4_lineMany_4 σ q = some res) (hK : ∀ q, res = Sum.inl q → (∀ (H : Heap) (locs : List Loc) (ls : Array Slot), mR G σ H → va_S (mA G) s.heap H locs → lv_has ls 3 [(0, .ref (mo G)), (1, .int q.1), (2, .int q.2)] → W p l e (mRm 1 22) s m args below meth c H locs 0 0 Q (F0 m 4 ls []))) (hE30 : ∀ b, res = Sum.inr b → (∀ (H : Heap) (locs : List Loc) (ls : Array Slot), mR G σ H → va_S (mA G) s.heap H locs → lv_has ls 3 [(0, .ref (mo G)), (1, .int b)] → W p l e (mRm 1 22) s m args below meth c H locs 0 0 Q (F0 m 30 ls []))) : (∀ (H : Heap) (locs : List Loc) (ls : Array Slot), mR G σ H → va_S (mA G) s.heap H locs → lv_has ls 3 [(0, .ref (mo G)), (1, .int q.1), (2, .int q.2)] → W p l e (mRm 1 22) s m args below meth c H locs 0 0 Q (F0 m 4 ls [])) := by
  replace hf : (if (σ.1 0) ≤ q.2 then some (Sum.inr q.1) else (mald σ 4 q.2).bind (fun v1 => (fX4_bits v1).bind (fun v2 => (some (q.1 + v2)).bind (fun v3 => some (Sum.inl (v3, q.2 + (1 : Int32))))))) = some res := hf
  obtain ⟨hx, hb, hml, hown, hts⟩ := S.1.1
  intro H locs ls hR hS hl
  refine lv_iload_n hx hb dX4_lineMany_4 rfl (lv_at hl 2 rfl) ?_
  refine lv_aload_n hx hb dX4_lineMany_5 rfl (lv_at hl 0 rfl) ?_
  refine m_geti (k := 0) S hR (by decide) (by decide) q2526 dX4_lineMany_6 ?_
  refine lv_icmp_ge (tgt := 30) hx hb dX4_lineMany_9 (by decide) (fun c_9 => ?_) (fun c_9 => ?_)
  · replace hf := o_t hf c_9
    exact hE30 _ (Option.some.inj hf).symm _ _ _ hR hS (lv_sub (l' := [(0, .ref (mo G)), (1, .int q.1)]) hl [0, 1] rfl)
  · replace hf := o_f hf c_9
    refine lv_iload_n hx hb dX4_lineMany_12 rfl (lv_at hl 1 rfl) ?_
    refine lv_aload_n hx hb dX4_lineMany_13 rfl (lv_at hl 0 rfl) ?_
    refine m_geta (k := 4) S hR (by decide) (by decide) q2530 dX4_lineMany_14 ?_
    refine lv_iload_n hx hb dX4_lineMany_17 rfl (lv_at hl 2 rfl) ?_
    refine k_bind hf (fun v1 hv1 hf => ?_)
    refine m_iald S hR hv1 dX4_lineMany_18 ?_
    refine k_bind hf (fun v2 hv2 hf => ?_)
    refine s_call (As := [.int v1]) (rest := [.int q.1]) S.1.1 (met_X4_bits hv2) wi_X4_bits q2712 ⟨rfl, rfl⟩ ⟨Nat.le_of_ble_eq_true rfl, Nat.le_of_ble_eq_true rfl⟩ rfl hl.1 rfl (Nat.le_of_ble_eq_true rfl) dX4_lineMany_19 ⟨Nat.zero_le _, Nat.zero_le _⟩ ?_
    refine lv_iadd hx hb dX4_lineMany_22 ?_
    refine k_bind hf (fun v3 hv3 hf => ?_)
    refine m_nmi hv3 ?_
    refine lv_istore_n (lv' := [(1, .int v3), (0, .ref (mo G)), (2, .int q.2)]) hx hb dX4_lineMany_23 rfl hl (by decide) rfl (fun ls hl => ?_)
    refine lv_iinc (lv' := [(2, .int (q.2 + (1 : Int32))), (1, .int v3), (0, .ref (mo G))]) hx hb dX4_lineMany_24 hl (k := 2) rfl (m_inc (by decide)) (by decide) rfl (fun ls hl => ?_)
    refine lv_goto (tgt := 4) hx hb dX4_lineMany_27 (by decide) ?_
    exact hK _ (Option.some.inj hf).symm _ _ _ hR hS (lv_sub (l' := [(0, .ref (mo G)), (1, .int v3), (2, .int (q.2 + (1 : Int32)))]) hl [2, 1, 0] rfl)
set_option maxHeartbeats 4000000 in
set_option maxRecDepth 100000 in
theorem wLX4_lineMany_4 {l : Launch} {G : mG} {p : Program} {e : Env} {s : State} {m : MethodId} {args : Array Value} {below : List Frame} {meth : Method} {c : Code} {Q : State → Prop} {σ : mS} {q : Int32 × Int32} {res : Int32} (S : mSt G p m c cX4_lineMany 3 s args meth (Option.some Jvm.ClassFile.FieldType.int)) (h : lpw (LX4_lineMany_4 σ) q = some res) (hE30 : ∀ b, res = b → (∀ (H : Heap) (locs : List Loc) (ls : Array Slot), mR G σ H → va_S (mA G) s.heap H locs → lv_has ls 3 [(0, .ref (mo G)), (1, .int b)] → W p l e (mRm 1 22) s m args below meth c H locs 0 0 Q (F0 m 30 ls []))) : (∀ (H : Heap) (locs : List Loc) (ls : Array Slot), mR G σ H → va_S (mA G) s.heap H locs → lv_has ls 3 [(0, .ref (mo G)), (1, .int q.1), (2, .int q.2)] → W p l e (mRm 1 22) s m args below meth c H locs 0 0 Q (F0 m 4 ls [])) :=
  lpw_go _ (fun q => (∀ (H : Heap) (locs : List Loc) (ls : Array Slot), mR G σ H → va_S (mA G) s.heap H locs → lv_has ls 3 [(0, .ref (mo G)), (1, .int q.1), (2, .int q.2)] → W p l e (mRm 1 22) s m args below meth c H locs 0 0 Q (F0 m 4 ls []))) (fun b0 => (∀ b, b0 = b → (∀ (H : Heap) (locs : List Loc) (ls : Array Slot), mR G σ H → va_S (mA G) s.heap H locs → lv_has ls 3 [(0, .ref (mo G)), (1, .int b)] → W p l e (mRm 1 22) s m args below meth c H locs 0 0 Q (F0 m 30 ls [])))) (fun q x hf hK hX => wbLX4_lineMany_4 S hf hK (fun b eb => (hX _ eb) b rfl)) q res h hE30
set_option maxHeartbeats 4000000 in
set_option maxRecDepth 100000 in
theorem met_X4_lineMany {l : Launch} {G : mG} {σ : mS} {res : Int32} (hf : fX4_lineMany σ = some res) : mMet l yX4_lineMany cX4_lineMany 3 (Option.some Jvm.ClassFile.FieldType.int) (mRm 1 22) G [.ref (mo G)] σ (some (.int res)) σ := by
  replace hf : ((lpw (LX4_lineMany_4 σ) ((0 : Int32), (0 : Int32))).bind (fun b4 => some (b4 / (2 : Int32)))) = some res := hf
  refine m_start (by decide) rfl (Nat.le_of_ble_eq_true rfl) ?_
  intro p e s m args below meth c S hR hS ls hl
  obtain ⟨hx, hb, hml, hown, hts⟩ := S.1.1
  have hl : lv_has ls 3 [(0, .ref (mo G))] := hl
  refine lv_iconst (v := 0) hx hb dX4_lineMany_0 (by decide) ?_
  refine lv_istore_n (lv' := [(1, .int (0 : Int32)), (0, .ref (mo G))]) hx hb dX4_lineMany_1 rfl hl (by decide) rfl (fun ls hl => ?_)
  refine lv_iconst (v := 0) hx hb dX4_lineMany_2 (by decide) ?_
  refine lv_istore_n (lv' := [(2, .int (0 : Int32)), (1, .int (0 : Int32)), (0, .ref (mo G))]) hx hb dX4_lineMany_3 rfl hl (by decide) rfl (fun ls hl => ?_)
  refine k_bind hf (fun b4 hb4 hf => ?_)
  refine wLX4_lineMany_4 S hb4 ?_ _ _ _ hR hS (lv_sub (l' := [(0, .ref (mo G)), (1, .int (0 : Int32)), (2, .int (0 : Int32))]) hl [2, 1, 0] rfl)
  · intro b eb; subst eb; intro H locs ls hR hS hl
    refine lv_iload_n hx hb dX4_lineMany_30 rfl (lv_at hl 1 rfl) ?_
    refine lv_iconst (v := 2) hx hb dX4_lineMany_31 (by decide) ?_
    refine lv_idiv hx hb dX4_lineMany_32 (by decide) ?_
    obtain rfl := Option.some.inj hf
    exact m_iret S hR hS rfl dX4_lineMany_33

noncomputable def LX4_count_4 (y1 : Int32) (σ : mS) (q : Int32 × Int32) : Option ((Int32 × Int32) ⊕ (Int32)) :=
  if (σ.1 0) ≤ q.2 then some (Sum.inr q.1) else (mald σ 4 q.2).bind (fun v1 => if v1 = (0 : Int32) then (some (q.1 + (1 : Int32))).bind (fun v3 => some (Sum.inl (v3, q.2 + (1 : Int32)))) else (some (q.1 + (0 : Int32))).bind (fun v2 => some (Sum.inl (v2, q.2 + (1 : Int32)))))
noncomputable def fX4_count (x1 : Int32) (σ : mS) : Option Int32 :=
  (lpw (LX4_count_4 x1 σ) ((0 : Int32), (0 : Int32))).bind (fun b4 => if x1 = (0 : Int32) then some (σ.1 0) else if x1 = (1 : Int32) then (fX4_lineMany σ).bind (fun v5 => some v5) else if x1 = (2 : Int32) then some b4 else if x1 = (3 : Int32) then some (σ.1 25) else if x1 = (4 : Int32) then some (σ.1 1) else if x1 = (5 : Int32) then some (σ.1 26) else some (-2 : Int32))
theorem wi_X4_count : wInfV yX4_count cX4_count 4 (Option.some Jvm.ClassFile.FieldType.int) 1 := ⟨q2723, q2724, q116, q2725, (by decide +kernel), (by decide +kernel), (by decide +kernel)⟩
set_option maxHeartbeats 4000000 in
set_option maxRecDepth 100000 in
theorem wbLX4_count_4 {l : Launch} {G : mG} {p : Program} {e : Env} {s : State} {m : MethodId} {args : Array Value} {below : List Frame} {meth : Method} {c : Code} {Q : State → Prop} {y1 : Int32} {σ : mS} {q : Int32 × Int32} {res : (Int32 × Int32) ⊕ (Int32)} (S : mSt G p m c cX4_count 4 s args meth (Option.some Jvm.ClassFile.FieldType.int)) (hf : LX4_count_4 y1 σ q = some res) (hK : ∀ q, res = Sum.inl q → (∀ (H : Heap) (locs : List Loc) (ls : Array Slot), mR G σ H → va_S (mA G) s.heap H locs → lv_has ls 4 [(0, .ref (mo G)), (1, .int y1), (2, .int q.1), (3, .int q.2)] → W p l e (mRm 2 44) s m args below meth c H locs 0 0 Q (F0 m 4 ls []))) (hE35 : ∀ b, res = Sum.inr b → (∀ (H : Heap) (locs : List Loc) (ls : Array Slot), mR G σ H → va_S (mA G) s.heap H locs → lv_has ls 4 [(0, .ref (mo G)), (1, .int y1), (2, .int b)] → W p l e (mRm 2 44) s m args below meth c H locs 0 0 Q (F0 m 35 ls []))) : (∀ (H : Heap) (locs : List Loc) (ls : Array Slot), mR G σ H → va_S (mA G) s.heap H locs → lv_has ls 4 [(0, .ref (mo G)), (1, .int y1), (2, .int q.1), (3, .int q.2)] → W p l e (mRm 2 44) s m args below meth c H locs 0 0 Q (F0 m 4 ls [])) := by
  replace hf : (if (σ.1 0) ≤ q.2 then some (Sum.inr q.1) else (mald σ 4 q.2).bind (fun v1 => if v1 = (0 : Int32) then (some (q.1 + (1 : Int32))).bind (fun v3 => some (Sum.inl (v3, q.2 + (1 : Int32)))) else (some (q.1 + (0 : Int32))).bind (fun v2 => some (Sum.inl (v2, q.2 + (1 : Int32)))))) = some res := hf
  obtain ⟨hx, hb, hml, hown, hts⟩ := S.1.1
  intro H locs ls hR hS hl
  refine lv_iload_n hx hb dX4_count_4 rfl (lv_at hl 3 rfl) ?_
  refine lv_aload_n hx hb dX4_count_5 rfl (lv_at hl 0 rfl) ?_
  refine m_geti (k := 0) S hR (by decide) (by decide) q2526 dX4_count_6 ?_
  refine lv_icmp_ge (tgt := 35) hx hb dX4_count_9 (by decide) (fun c_9 => ?_) (fun c_9 => ?_)
  · replace hf := o_t hf c_9
    exact hE35 _ (Option.some.inj hf).symm _ _ _ hR hS (lv_sub (l' := [(0, .ref (mo G)), (1, .int y1), (2, .int q.1)]) hl [0, 1, 2] rfl)
  · replace hf := o_f hf c_9
    refine lv_iload_n hx hb dX4_count_12 rfl (lv_at hl 2 rfl) ?_
    refine lv_aload_n hx hb dX4_count_13 rfl (lv_at hl 0 rfl) ?_
    refine m_geta (k := 4) S hR (by decide) (by decide) q2530 dX4_count_14 ?_
    refine lv_iload_n hx hb dX4_count_17 rfl (lv_at hl 3 rfl) ?_
    refine k_bind hf (fun v1 hv1 hf => ?_)
    refine m_iald S hR hv1 dX4_count_18 ?_
    refine lv_if_ne (tgt := 26) hx hb dX4_count_19 (by decide) (fun c_19 => ?_) (fun c_19 => ?_)
    · replace hf := o_f hf c_19
      refine lv_iconst (v := 0) hx hb dX4_count_26 (by decide) ?_
      refine lv_iadd hx hb dX4_count_27 ?_
      refine k_bind hf (fun v2 hv2 hf => ?_)
      refine m_nmi hv2 ?_
      refine lv_istore_n (lv' := [(2, .int v2), (0, .ref (mo G)), (1, .int y1), (3, .int q.2)]) hx hb dX4_count_28 rfl hl (by decide) rfl (fun ls hl => ?_)
      refine lv_iinc (lv' := [(3, .int (q.2 + (1 : Int32))), (2, .int v2), (0, .ref (mo G)), (1, .int y1)]) hx hb dX4_count_29 hl (k := 3) rfl (m_inc (by decide)) (by decide) rfl (fun ls hl => ?_)
      refine lv_goto (tgt := 4) hx hb dX4_count_32 (by decide) ?_
      exact hK _ (Option.some.inj hf).symm _ _ _ hR hS (lv_sub (l' := [(0, .ref (mo G)), (1, .int y1), (2, .int v2), (3, .int (q.2 + (1 : Int32)))]) hl [2, 3, 1, 0] rfl)
    · replace hf := o_t hf c_19
      refine lv_iconst (v := 1) hx hb dX4_count_22 (by decide) ?_
      refine lv_goto (tgt := 27) hx hb dX4_count_23 (by decide) ?_
      refine lv_iadd hx hb dX4_count_27 ?_
      refine k_bind hf (fun v3 hv3 hf => ?_)
      refine m_nmi hv3 ?_
      refine lv_istore_n (lv' := [(2, .int v3), (0, .ref (mo G)), (1, .int y1), (3, .int q.2)]) hx hb dX4_count_28 rfl hl (by decide) rfl (fun ls hl => ?_)
      refine lv_iinc (lv' := [(3, .int (q.2 + (1 : Int32))), (2, .int v3), (0, .ref (mo G)), (1, .int y1)]) hx hb dX4_count_29 hl (k := 3) rfl (m_inc (by decide)) (by decide) rfl (fun ls hl => ?_)
      refine lv_goto (tgt := 4) hx hb dX4_count_32 (by decide) ?_
      exact hK _ (Option.some.inj hf).symm _ _ _ hR hS (lv_sub (l' := [(0, .ref (mo G)), (1, .int y1), (2, .int v3), (3, .int (q.2 + (1 : Int32)))]) hl [2, 3, 1, 0] rfl)
set_option maxHeartbeats 4000000 in
set_option maxRecDepth 100000 in
theorem wLX4_count_4 {l : Launch} {G : mG} {p : Program} {e : Env} {s : State} {m : MethodId} {args : Array Value} {below : List Frame} {meth : Method} {c : Code} {Q : State → Prop} {y1 : Int32} {σ : mS} {q : Int32 × Int32} {res : Int32} (S : mSt G p m c cX4_count 4 s args meth (Option.some Jvm.ClassFile.FieldType.int)) (h : lpw (LX4_count_4 y1 σ) q = some res) (hE35 : ∀ b, res = b → (∀ (H : Heap) (locs : List Loc) (ls : Array Slot), mR G σ H → va_S (mA G) s.heap H locs → lv_has ls 4 [(0, .ref (mo G)), (1, .int y1), (2, .int b)] → W p l e (mRm 2 44) s m args below meth c H locs 0 0 Q (F0 m 35 ls []))) : (∀ (H : Heap) (locs : List Loc) (ls : Array Slot), mR G σ H → va_S (mA G) s.heap H locs → lv_has ls 4 [(0, .ref (mo G)), (1, .int y1), (2, .int q.1), (3, .int q.2)] → W p l e (mRm 2 44) s m args below meth c H locs 0 0 Q (F0 m 4 ls [])) :=
  lpw_go _ (fun q => (∀ (H : Heap) (locs : List Loc) (ls : Array Slot), mR G σ H → va_S (mA G) s.heap H locs → lv_has ls 4 [(0, .ref (mo G)), (1, .int y1), (2, .int q.1), (3, .int q.2)] → W p l e (mRm 2 44) s m args below meth c H locs 0 0 Q (F0 m 4 ls []))) (fun b0 => (∀ b, b0 = b → (∀ (H : Heap) (locs : List Loc) (ls : Array Slot), mR G σ H → va_S (mA G) s.heap H locs → lv_has ls 4 [(0, .ref (mo G)), (1, .int y1), (2, .int b)] → W p l e (mRm 2 44) s m args below meth c H locs 0 0 Q (F0 m 35 ls [])))) (fun q x hf hK hX => wbLX4_count_4 S hf hK (fun b eb => (hX _ eb) b rfl)) q res h hE35
set_option maxHeartbeats 4000000 in
set_option maxRecDepth 100000 in
theorem met_X4_count {l : Launch} {G : mG} {x1 : Int32} {σ : mS} {res : Int32} (hf : fX4_count x1 σ = some res) : mMet l yX4_count cX4_count 4 (Option.some Jvm.ClassFile.FieldType.int) (mRm 2 44) G [.ref (mo G), .int x1] σ (some (.int res)) σ := by
  replace hf : ((lpw (LX4_count_4 x1 σ) ((0 : Int32), (0 : Int32))).bind (fun b4 => if x1 = (0 : Int32) then some (σ.1 0) else if x1 = (1 : Int32) then (fX4_lineMany σ).bind (fun v5 => some v5) else if x1 = (2 : Int32) then some b4 else if x1 = (3 : Int32) then some (σ.1 25) else if x1 = (4 : Int32) then some (σ.1 1) else if x1 = (5 : Int32) then some (σ.1 26) else some (-2 : Int32))) = some res := hf
  refine m_start (by decide) rfl (Nat.le_of_ble_eq_true rfl) ?_
  intro p e s m args below meth c S hR hS ls hl
  obtain ⟨hx, hb, hml, hown, hts⟩ := S.1.1
  have hl : lv_has ls 4 [(0, .ref (mo G)), (1, .int x1)] := hl
  refine lv_iconst (v := 0) hx hb dX4_count_0 (by decide) ?_
  refine lv_istore_n (lv' := [(2, .int (0 : Int32)), (0, .ref (mo G)), (1, .int x1)]) hx hb dX4_count_1 rfl hl (by decide) rfl (fun ls hl => ?_)
  refine lv_iconst (v := 0) hx hb dX4_count_2 (by decide) ?_
  refine lv_istore_n (lv' := [(3, .int (0 : Int32)), (2, .int (0 : Int32)), (0, .ref (mo G)), (1, .int x1)]) hx hb dX4_count_3 rfl hl (by decide) rfl (fun ls hl => ?_)
  refine k_bind hf (fun b4 hb4 hf => ?_)
  refine wLX4_count_4 S hb4 ?_ _ _ _ hR hS (lv_sub (l' := [(0, .ref (mo G)), (1, .int x1), (2, .int (0 : Int32)), (3, .int (0 : Int32))]) hl [2, 3, 1, 0] rfl)
  · intro b eb; subst eb; intro H locs ls hR hS hl
    refine lv_iload_n hx hb dX4_count_35 rfl (lv_at hl 1 rfl) ?_
    by_cases c_36_0 : x1 = (0 : Int32)
    · replace hf := o_t hf c_36_0
      refine lv_tableIn (tgt := 76) hx hb dX4_count_36 (by rw [c_36_0]; decide) (by rw [c_36_0]; decide) (by rw [c_36_0]; rfl) (by decide) ?_
      refine lv_aload_n hx hb dX4_count_76 rfl (lv_at hl 0 rfl) ?_
      refine m_geti (k := 0) S hR (by decide) (by decide) q2526 dX4_count_77 ?_
      obtain rfl := Option.some.inj hf
      exact m_iret S hR hS rfl dX4_count_80
    replace hf := o_f hf c_36_0
    by_cases c_36_1 : x1 = (1 : Int32)
    · replace hf := o_t hf c_36_1
      refine lv_tableIn (tgt := 81) hx hb dX4_count_36 (by rw [c_36_1]; decide) (by rw [c_36_1]; decide) (by rw [c_36_1]; rfl) (by decide) ?_
      refine lv_aload_n hx hb dX4_count_81 rfl (lv_at hl 0 rfl) ?_
      refine k_bind hf (fun v5 hv5 hf => ?_)
      refine m_call (As := []) (rest := []) S hR hS (met_X4_lineMany hv5) wi_X4_lineMany rfl q2726 ⟨rfl, rfl⟩ ⟨Nat.le_of_ble_eq_true rfl, Nat.le_of_ble_eq_true rfl⟩ rfl hl.1 rfl (Nat.le_of_ble_eq_true rfl) dX4_count_82 (fun H locs hR hS => ?_)
      obtain rfl := Option.some.inj hf
      exact m_iret S hR hS rfl dX4_count_85
    replace hf := o_f hf c_36_1
    by_cases c_36_2 : x1 = (2 : Int32)
    · replace hf := o_t hf c_36_2
      refine lv_tableIn (tgt := 86) hx hb dX4_count_36 (by rw [c_36_2]; decide) (by rw [c_36_2]; decide) (by rw [c_36_2]; rfl) (by decide) ?_
      refine lv_iload_n hx hb dX4_count_86 rfl (lv_at hl 2 rfl) ?_
      obtain rfl := Option.some.inj hf
      exact m_iret S hR hS rfl dX4_count_87
    replace hf := o_f hf c_36_2
    by_cases c_36_3 : x1 = (3 : Int32)
    · replace hf := o_t hf c_36_3
      refine lv_tableIn (tgt := 88) hx hb dX4_count_36 (by rw [c_36_3]; decide) (by rw [c_36_3]; decide) (by rw [c_36_3]; rfl) (by decide) ?_
      refine lv_aload_n hx hb dX4_count_88 rfl (lv_at hl 0 rfl) ?_
      refine m_geti (k := 25) S hR (by decide) (by decide) q2551 dX4_count_89 ?_
      obtain rfl := Option.some.inj hf
      exact m_iret S hR hS rfl dX4_count_92
    replace hf := o_f hf c_36_3
    by_cases c_36_4 : x1 = (4 : Int32)
    · replace hf := o_t hf c_36_4
      refine lv_tableIn (tgt := 93) hx hb dX4_count_36 (by rw [c_36_4]; decide) (by rw [c_36_4]; decide) (by rw [c_36_4]; rfl) (by decide) ?_
      refine lv_aload_n hx hb dX4_count_93 rfl (lv_at hl 0 rfl) ?_
      refine m_geti (k := 1) S hR (by decide) (by decide) q2527 dX4_count_94 ?_
      obtain rfl := Option.some.inj hf
      exact m_iret S hR hS rfl dX4_count_97
    replace hf := o_f hf c_36_4
    by_cases c_36_5 : x1 = (5 : Int32)
    · replace hf := o_t hf c_36_5
      refine lv_tableIn (tgt := 98) hx hb dX4_count_36 (by rw [c_36_5]; decide) (by rw [c_36_5]; decide) (by rw [c_36_5]; rfl) (by decide) ?_
      refine lv_aload_n hx hb dX4_count_98 rfl (lv_at hl 0 rfl) ?_
      refine m_geti (k := 26) S hR (by decide) (by decide) q2552 dX4_count_99 ?_
      obtain rfl := Option.some.inj hf
      exact m_iret S hR hS rfl dX4_count_102
    replace hf := o_f hf c_36_5
    refine lv_tableOut (tgt := 103) hx hb dX4_count_36 (by have t0 := lv_neT c_36_0 (a := 0) rfl; have t1 := lv_neT c_36_1 (a := 1) rfl; have t2 := lv_neT c_36_2 (a := 2) rfl; have t3 := lv_neT c_36_3 (a := 3) rfl; have t4 := lv_neT c_36_4 (a := 4) rfl; have t5 := lv_neT c_36_5 (a := 5) rfl; omega) (by decide) ?_
    refine lv_bipush (v := -2) hx hb dX4_count_103 (by decide) ?_
    obtain rfl := Option.some.inj hf
    exact m_iret S hR hS rfl dX4_count_105
