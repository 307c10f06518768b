/-! the reference, walked: searchFor search node prove isTold proves -/
noncomputable def fX4_searchFor (x1 : Int32) (x2 : Int32) (σ : mS) : Option (Int32 × mS) :=
  (mput σ 16 (0 : Int32)).bind (fun σ1 => (mput σ1 17 (0 : Int32)).bind (fun σ2 => (mput σ2 18 (0 : Int32)).bind (fun σ3 => (mput σ3 19 x2).bind (fun σ4 => (fX4_searches 16 (fX4_all σ4) (0 : Int32) x1 (0 : Int32) σ4).bind (fun e5 => some (e5.1, e5.2))))))
theorem wi_X4_searchFor : wInfV yX4_searchFor cX4_searchFor 3 (Option.some Jvm.ClassFile.FieldType.int) 2 := ⟨q2906, qs84, q116, q2907, (by decide +kernel), (by decide +kernel), (by decide +kernel)⟩
set_option maxHeartbeats 4000000 in
set_option maxRecDepth 100000 in
theorem met_X4_searchFor {l : Launch} {G : mG} {x1 : Int32} {x2 : Int32} {σ : mS} {res : Int32 × mS} (hf : fX4_searchFor x1 x2 σ = some res) : mMet l yX4_searchFor cX4_searchFor 3 (Option.some Jvm.ClassFile.FieldType.int) (mRm 36 945) G [.ref (mo G), .int x1, .int x2] σ (some (.int res.1)) res.2 := by
  replace hf : ((mput σ 16 (0 : Int32)).bind (fun σ1 => (mput σ1 17 (0 : Int32)).bind (fun σ2 => (mput σ2 18 (0 : Int32)).bind (fun σ3 => (mput σ3 19 x2).bind (fun σ4 => (fX4_searches 16 (fX4_all σ4) (0 : Int32) x1 (0 : Int32) σ4).bind (fun e5 => some (e5.1, e5.2))))))) = some res := hf
  refine m_start (by decide) rfl (Nat.le_of_ble_eq_true rfl) ?_
  intro p e s m args below meth c S hR hS ls hl
  obtain ⟨hx, hb, hml, hown, hts⟩ := S.1.1
  have hl : lv_has ls 3 [(0, .ref (mo G)), (1, .int x1), (2, .int x2)] := hl
  refine lv_aload_n hx hb dX4_searchFor_0 rfl (lv_at hl 0 rfl) ?_
  refine lv_iconst (v := 0) hx hb dX4_searchFor_1 (by decide) ?_
  refine k_bind hf (fun σ1 hσ1 hf => ?_)
  refine m_puti (k := 16) S hR hS hσ1 (by decide) (by decide) rfl rfl rfl rfl q2542 dX4_searchFor_2 (fun H locs hR hS => ?_)
  refine lv_aload_n hx hb dX4_searchFor_5 rfl (lv_at hl 0 rfl) ?_
  refine lv_iconst (v := 0) hx hb dX4_searchFor_6 (by decide) ?_
  refine k_bind hf (fun σ2 hσ2 hf => ?_)
  refine m_puti (k := 17) S hR hS hσ2 (by decide) (by decide) rfl rfl rfl rfl q2543 dX4_searchFor_7 (fun H locs hR hS => ?_)
  refine lv_aload_n hx hb dX4_searchFor_10 rfl (lv_at hl 0 rfl) ?_
  refine lv_iconst (v := 0) hx hb dX4_searchFor_11 (by decide) ?_
  refine k_bind hf (fun σ3 hσ3 hf => ?_)
  refine m_puti (k := 18) S hR hS hσ3 (by decide) (by decide) rfl rfl rfl rfl q2544 dX4_searchFor_12 (fun H locs hR hS => ?_)
  refine lv_aload_n hx hb dX4_searchFor_15 rfl (lv_at hl 0 rfl) ?_
  refine lv_iload_n hx hb dX4_searchFor_16 rfl (lv_at hl 2 rfl) ?_
  refine k_bind hf (fun σ4 hσ4 hf => ?_)
  refine m_puti (k := 19) S hR hS hσ4 (by decide) (by decide) rfl rfl rfl rfl q2545 dX4_searchFor_17 (fun H locs hR hS => ?_)
  refine lv_aload_n hx hb dX4_searchFor_20 rfl (lv_at hl 0 rfl) ?_
  refine lv_aload_n hx hb dX4_searchFor_21 rfl (lv_at hl 0 rfl) ?_
  refine m_call (As := []) (rest := [.ref (mo G)]) S hR hS (met_X4_all rfl) wi_X4_all rfl q2738 ⟨rfl, rfl⟩ ⟨Nat.le_of_ble_eq_true rfl, Nat.le_of_ble_eq_true rfl⟩ rfl hl.1 rfl (Nat.le_of_ble_eq_true rfl) dX4_searchFor_22 (fun H locs hR hS => ?_)
  refine lv_iconst (v := 0) hx hb dX4_searchFor_25 (by decide) ?_
  refine lv_iload_n hx hb dX4_searchFor_26 rfl (lv_at hl 1 rfl) ?_
  refine lv_iconst (v := 0) hx hb dX4_searchFor_27 (by decide) ?_
  refine k_bind hf (fun e5 he5 hf => ?_)
  refine m_call (As := [.int (fX4_all σ4), .int (0 : Int32), .int x1, .int (0 : Int32)]) (rest := []) S hR hS (met_X4_searches he5) wi_X4_searches rfl q2908 ⟨rfl, rfl⟩ ⟨Nat.le_of_ble_eq_true rfl, Nat.le_of_ble_eq_true rfl⟩ rfl hl.1 rfl (Nat.le_of_ble_eq_true rfl) dX4_searchFor_28 (fun H locs hR hS => ?_)
  obtain rfl := Option.some.inj hf
  exact m_iret S hR hS rfl dX4_searchFor_31

noncomputable def fX4_search (x1 : Int32) (x2 : Int32) (σ : mS) : Option (Int32 × mS) :=
  if (fX4_in x1 (0 : Int32) (12 : Int32)) = (0 : Int32) then some ((-2 : Int32), σ) else if (fX4_in x2 (0 : Int32) (4 : Int32)) = (0 : Int32) then some ((-2 : Int32), σ) else (fX4_searchFor x1 (-1 : Int32) σ).bind (fun e1 => if x2 = (0 : Int32) then if e1.1 = (-1 : Int32) then some ((0 : Int32), e1.2) else some ((1 : Int32), e1.2) else if x2 = (1 : Int32) then some ((e1.2.1 16), e1.2) else if x2 = (2 : Int32) then some (e1.1, e1.2) else if x2 = (3 : Int32) then some ((e1.2.1 17), e1.2) else some ((e1.2.1 18), e1.2))
theorem wi_X4_search : wInfV yX4_search cX4_search 4 (Option.some Jvm.ClassFile.FieldType.int) 2 := ⟨q2901, q2902, q116, q2903, (by decide +kernel), (by decide +kernel), (by decide +kernel)⟩
set_option maxHeartbeats 4000000 in
set_option maxRecDepth 100000 in
theorem met_X4_search {l : Launch} {G : mG} {x1 : Int32} {x2 : Int32} {σ : mS} {res : Int32 × mS} (hf : fX4_search x1 x2 σ = some res) : mMet l yX4_search cX4_search 4 (Option.some Jvm.ClassFile.FieldType.int) (mRm 37 967) G [.ref (mo G), .int x1, .int x2] σ (some (.int res.1)) res.2 := by
  replace hf : (if (fX4_in x1 (0 : Int32) (12 : Int32)) = (0 : Int32) then some ((-2 : Int32), σ) else if (fX4_in x2 (0 : Int32) (4 : Int32)) = (0 : Int32) then some ((-2 : Int32), σ) else (fX4_searchFor x1 (-1 : Int32) σ).bind (fun e1 => if x2 = (0 : Int32) then if e1.1 = (-1 : Int32) then some ((0 : Int32), e1.2) else some ((1 : Int32), e1.2) else if x2 = (1 : Int32) then some ((e1.2.1 16), e1.2) else if x2 = (2 : Int32) then some (e1.1, e1.2) else if x2 = (3 : Int32) then some ((e1.2.1 17), e1.2) else some ((e1.2.1 18), e1.2))) = some res := hf
  refine m_start (by decide) rfl (Nat.le_of_ble_eq_true rfl) ?_
  intro p e s m args below meth c S hR hS ls hl
  obtain ⟨hx, hb, hml, hown, hts⟩ := S.1.1
  have hl : lv_has ls 4 [(0, .ref (mo G)), (1, .int x1), (2, .int x2)] := hl
  refine lv_iload_n hx hb dX4_search_0 rfl (lv_at hl 1 rfl) ?_
  refine lv_iconst (v := 0) hx hb dX4_search_1 (by decide) ?_
  refine lv_bipush (v := 12) hx hb dX4_search_2 (by decide) ?_
  refine s_call (As := [.int x1, .int (0 : Int32), .int (12 : Int32)]) (rest := []) S.1.1 (met_X4_in rfl) wi_X4_in q2681 ⟨rfl, rfl⟩ ⟨Nat.le_of_ble_eq_true rfl, Nat.le_of_ble_eq_true rfl⟩ rfl hl.1 rfl (Nat.le_of_ble_eq_true rfl) dX4_search_4 ⟨Nat.zero_le _, Nat.zero_le _⟩ ?_
  refine lv_if_eq (tgt := 19) hx hb dX4_search_7 (by decide) (fun c_7 => ?_) (fun c_7 => ?_)
  · replace hf := o_t hf c_7
    refine lv_bipush (v := -2) hx hb dX4_search_19 (by decide) ?_
    obtain rfl := Option.some.inj hf
    exact m_iret S hR hS rfl dX4_search_21
  · replace hf := o_f hf c_7
    refine lv_iload_n hx hb dX4_search_10 rfl (lv_at hl 2 rfl) ?_
    refine lv_iconst (v := 0) hx hb dX4_search_11 (by decide) ?_
    refine lv_iconst (v := 4) hx hb dX4_search_12 (by decide) ?_
    refine s_call (As := [.int x2, .int (0 : Int32), .int (4 : Int32)]) (rest := []) S.1.1 (met_X4_in rfl) wi_X4_in q2681 ⟨rfl, rfl⟩ ⟨Nat.le_of_ble_eq_true rfl, Nat.le_of_ble_eq_true rfl⟩ rfl hl.1 rfl (Nat.le_of_ble_eq_true rfl) dX4_search_13 ⟨Nat.zero_le _, Nat.zero_le _⟩ ?_
    refine lv_if_ne (tgt := 22) hx hb dX4_search_16 (by decide) (fun c_16 => ?_) (fun c_16 => ?_)
    · replace hf := o_f hf c_16
      refine lv_aload_n hx hb dX4_search_22 rfl (lv_at hl 0 rfl) ?_
      refine lv_iload_n hx hb dX4_search_23 rfl (lv_at hl 1 rfl) ?_
      refine lv_iconst (v := -1) hx hb dX4_search_24 (by decide) ?_
      refine k_bind hf (fun e1 he1 hf => ?_)
      refine m_call (As := [.int x1, .int (-1 : Int32)]) (rest := []) S hR hS (met_X4_searchFor he1) wi_X4_searchFor rfl q2904 ⟨rfl, rfl⟩ ⟨Nat.le_of_ble_eq_true rfl, Nat.le_of_ble_eq_true rfl⟩ rfl hl.1 rfl (Nat.le_of_ble_eq_true rfl) dX4_search_25 (fun H locs hR hS => ?_)
      refine lv_istore_n (lv' := [(3, .int e1.1), (0, .ref (mo G)), (1, .int x1), (2, .int x2)]) hx hb dX4_search_28 rfl hl (by decide) rfl (fun ls hl => ?_)
      refine lv_iload_n hx hb dX4_search_29 rfl (lv_at hl 3 rfl) ?_
      by_cases c_30_0 : x2 = (0 : Int32)
      · replace hf := o_t hf c_30_0
        refine lv_tableIn (tgt := 60) hx hb dX4_search_30 (by rw [c_30_0]; decide) (by rw [c_30_0]; decide) (by rw [c_30_0]; rfl) (by decide) ?_
        refine lv_iload_n hx hb dX4_search_60 rfl (lv_at hl 0 rfl) ?_
        refine lv_iconst (v := -1) hx hb dX4_search_61 (by decide) ?_
        refine lv_icmp_ne (tgt := 69) hx hb dX4_search_62 (by decide) (fun c_62 => ?_) (fun c_62 => ?_)
        · replace hf := o_f hf c_62
          refine lv_iconst (v := 1) hx hb dX4_search_69 (by decide) ?_
          obtain rfl := Option.some.inj hf
          exact m_iret S hR hS rfl dX4_search_70
        · replace hf := o_t hf c_62
          refine lv_iconst (v := 0) hx hb dX4_search_65 (by decide) ?_
          refine lv_goto (tgt := 70) hx hb dX4_search_66 (by decide) ?_
          obtain rfl := Option.some.inj hf
          exact m_iret S hR hS rfl dX4_search_70
      replace hf := o_f hf c_30_0
      by_cases c_30_1 : x2 = (1 : Int32)
      · replace hf := o_t hf c_30_1
        refine lv_tableIn (tgt := 71) hx hb dX4_search_30 (by rw [c_30_1]; decide) (by rw [c_30_1]; decide) (by rw [c_30_1]; rfl) (by decide) ?_
        refine lv_aload_n hx hb dX4_search_71 rfl (lv_at hl 1 rfl) ?_
        refine m_geti (k := 16) S hR (by decide) (by decide) q2542 dX4_search_72 ?_
        obtain rfl := Option.some.inj hf
        exact m_iret S hR hS rfl dX4_search_75
      replace hf := o_f hf c_30_1
      by_cases c_30_2 : x2 = (2 : Int32)
      · replace hf := o_t hf c_30_2
        refine lv_tableIn (tgt := 76) hx hb dX4_search_30 (by rw [c_30_2]; decide) (by rw [c_30_2]; decide) (by rw [c_30_2]; rfl) (by decide) ?_
        refine lv_iload_n hx hb dX4_search_76 rfl (lv_at hl 0 rfl) ?_
        obtain rfl := Option.some.inj hf
        exact m_iret S hR hS rfl dX4_search_77
      replace hf := o_f hf c_30_2
      by_cases c_30_3 : x2 = (3 : Int32)
      · replace hf := o_t hf c_30_3
        refine lv_tableIn (tgt := 78) hx hb dX4_search_30 (by rw [c_30_3]; decide) (by rw [c_30_3]; decide) (by rw [c_30_3]; rfl) (by decide) ?_
        refine lv_aload_n hx hb dX4_search_78 rfl (lv_at hl 1 rfl) ?_
        refine m_geti (k := 17) S hR (by decide) (by decide) q2543 dX4_search_79 ?_
        obtain rfl := Option.some.inj hf
        exact m_iret S hR hS rfl dX4_search_82
      replace hf := o_f hf c_30_3
      refine lv_tableOut (tgt := 83) hx hb dX4_search_30 (by have t0 := lv_neT c_30_0 (a := 0) rfl; have t1 := lv_neT c_30_1 (a := 1) rfl; have t2 := lv_neT c_30_2 (a := 2) rfl; have t3 := lv_neT c_30_3 (a := 3) rfl; omega) (by decide) ?_
      refine lv_aload_n hx hb dX4_search_83 rfl (lv_at hl 1 rfl) ?_
      refine m_geti (k := 18) S hR (by decide) (by decide) q2544 dX4_search_84 ?_
      obtain rfl := Option.some.inj hf
      exact m_iret S hR hS rfl dX4_search_87
    · replace hf := o_t hf c_16
      refine lv_bipush (v := -2) hx hb dX4_search_19 (by decide) ?_
      obtain rfl := Option.some.inj hf
      exact m_iret S hR hS rfl dX4_search_21

noncomputable def fX4_node (x1 : Int32) (x2 : Int32) (x3 : Int32) (σ : mS) : Option (Int32 × mS) :=
  if (fX4_in x1 (0 : Int32) (12 : Int32)) = (0 : Int32) then some ((-2 : Int32), σ) else if x2 < (0 : Int32) then some ((-2 : Int32), σ) else if (fX4_in x3 (0 : Int32) (4 : Int32)) = (0 : Int32) then some ((-2 : Int32), σ) else (fX4_searchFor x1 x2 σ).bind (fun e1 => if (e1.2.1 16) ≤ x2 then some ((-2 : Int32), e1.2) else (mald e1.2 20 x3).bind (fun v2 => some (v2, e1.2)))
theorem wi_X4_node : wInfV yX4_node cX4_node 5 (Option.some Jvm.ClassFile.FieldType.int) 3 := ⟨q2917, q2918, q116, q2919, (by decide +kernel), (by decide +kernel), (by decide +kernel)⟩
set_option maxHeartbeats 4000000 in
set_option maxRecDepth 100000 in
theorem met_X4_node {l : Launch} {G : mG} {x1 : Int32} {x2 : Int32} {x3 : Int32} {σ : mS} {res : Int32 × mS} (hf : fX4_node x1 x2 x3 σ = some res) : mMet l yX4_node cX4_node 5 (Option.some Jvm.ClassFile.FieldType.int) (mRm 37 967) G [.ref (mo G), .int x1, .int x2, .int x3] σ (some (.int res.1)) res.2 := by
  replace hf : (if (fX4_in x1 (0 : Int32) (12 : Int32)) = (0 : Int32) then some ((-2 : Int32), σ) else if x2 < (0 : Int32) then some ((-2 : Int32), σ) else if (fX4_in x3 (0 : Int32) (4 : Int32)) = (0 : Int32) then some ((-2 : Int32), σ) else (fX4_searchFor x1 x2 σ).bind (fun e1 => if (e1.2.1 16) ≤ x2 then some ((-2 : Int32), e1.2) else (mald e1.2 20 x3).bind (fun v2 => some (v2, e1.2)))) = some res := hf
  refine m_start (by decide) rfl (Nat.le_of_ble_eq_true rfl) ?_
  intro p e s m args below meth c S hR hS ls hl
  obtain ⟨hx, hb, hml, hown, hts⟩ := S.1.1
  have hl : lv_has ls 5 [(0, .ref (mo G)), (1, .int x1), (2, .int x2), (3, .int x3)] := hl
  refine lv_iload_n hx hb dX4_node_0 rfl (lv_at hl 1 rfl) ?_
  refine lv_iconst (v := 0) hx hb dX4_node_1 (by decide) ?_
  refine lv_bipush (v := 12) hx hb dX4_node_2 (by decide) ?_
  refine s_call (As := [.int x1, .int (0 : Int32), .int (12 : Int32)]) (rest := []) S.1.1 (met_X4_in rfl) wi_X4_in q2681 ⟨rfl, rfl⟩ ⟨Nat.le_of_ble_eq_true rfl, Nat.le_of_ble_eq_true rfl⟩ rfl hl.1 rfl (Nat.le_of_ble_eq_true rfl) dX4_node_4 ⟨Nat.zero_le _, Nat.zero_le _⟩ ?_
  refine lv_if_eq (tgt := 23) hx hb dX4_node_7 (by decide) (fun c_7 => ?_) (fun c_7 => ?_)
  · replace hf := o_t hf c_7
    refine lv_bipush (v := -2) hx hb dX4_node_23 (by decide) ?_
    obtain rfl := Option.some.inj hf
    exact m_iret S hR hS rfl dX4_node_25
  · replace hf := o_f hf c_7
    refine lv_iload_n hx hb dX4_node_10 rfl (lv_at hl 2 rfl) ?_
    refine lv_if_lt (tgt := 23) hx hb dX4_node_11 (by decide) (fun c_11 => ?_) (fun c_11 => ?_)
    · replace hf := o_t hf c_11
      refine lv_bipush (v := -2) hx hb dX4_node_23 (by decide) ?_
      obtain rfl := Option.some.inj hf
      exact m_iret S hR hS rfl dX4_node_25
    · replace hf := o_f hf c_11
      refine lv_iload_n hx hb dX4_node_14 rfl (lv_at hl 3 rfl) ?_
      refine lv_iconst (v := 0) hx hb dX4_node_15 (by decide) ?_
      refine lv_iconst (v := 4) hx hb dX4_node_16 (by decide) ?_
      refine s_call (As := [.int x3, .int (0 : Int32), .int (4 : Int32)]) (rest := []) S.1.1 (met_X4_in rfl) wi_X4_in q2681 ⟨rfl, rfl⟩ ⟨Nat.le_of_ble_eq_true rfl, Nat.le_of_ble_eq_true rfl⟩ rfl hl.1 rfl (Nat.le_of_ble_eq_true rfl) dX4_node_17 ⟨Nat.zero_le _, Nat.zero_le _⟩ ?_
      refine lv_if_ne (tgt := 26) hx hb dX4_node_20 (by decide) (fun c_20 => ?_) (fun c_20 => ?_)
      · replace hf := o_f hf c_20
        refine lv_aload_n hx hb dX4_node_26 rfl (lv_at hl 0 rfl) ?_
        refine lv_iload_n hx hb dX4_node_27 rfl (lv_at hl 1 rfl) ?_
        refine lv_iload_n hx hb dX4_node_28 rfl (lv_at hl 2 rfl) ?_
        refine k_bind hf (fun e1 he1 hf => ?_)
        refine m_call (As := [.int x1, .int x2]) (rest := []) S hR hS (met_X4_searchFor he1) wi_X4_searchFor rfl q2904 ⟨rfl, rfl⟩ ⟨Nat.le_of_ble_eq_true rfl, Nat.le_of_ble_eq_true rfl⟩ rfl hl.1 rfl (Nat.le_of_ble_eq_true rfl) dX4_node_29 (fun H locs hR hS => ?_)
        refine lv_istore (lv' := [(4, .int e1.1), (0, .ref (mo G)), (1, .int x1), (2, .int x2), (3, .int x3)]) hx hb dX4_node_32 hl (by decide) rfl (fun ls hl => ?_)
        refine lv_iload_n hx hb dX4_node_34 rfl (lv_at hl 3 rfl) ?_
        refine lv_aload_n hx hb dX4_node_35 rfl (lv_at hl 1 rfl) ?_
        refine m_geti (k := 16) S hR (by decide) (by decide) q2542 dX4_node_36 ?_
        refine lv_icmp_ge (tgt := 51) hx hb dX4_node_39 (by decide) (fun c_39 => ?_) (fun c_39 => ?_)
        · replace hf := o_t hf c_39
          refine lv_bipush (v := -2) hx hb dX4_node_51 (by decide) ?_
          obtain rfl := Option.some.inj hf
          exact m_iret S hR hS rfl dX4_node_53
        · replace hf := o_f hf c_39
          refine lv_aload_n hx hb dX4_node_42 rfl (lv_at hl 1 rfl) ?_
          refine m_geta (k := 20) S hR (by decide) (by decide) q2546 dX4_node_43 ?_
          refine lv_iload_n hx hb dX4_node_46 rfl (lv_at hl 4 rfl) ?_
          refine k_bind hf (fun v2 hv2 hf => ?_)
          refine m_iald S hR hv2 dX4_node_47 ?_
          refine lv_goto (tgt := 53) hx hb dX4_node_48 (by decide) ?_
          obtain rfl := Option.some.inj hf
          exact m_iret S hR hS rfl dX4_node_53
      · replace hf := o_t hf c_20
        refine lv_bipush (v := -2) hx hb dX4_node_23 (by decide) ?_
        obtain rfl := Option.some.inj hf
        exact m_iret S hR hS rfl dX4_node_25

noncomputable def LX4_prove_63 (y1 : Int32) (q : Int32 × mS) : Option ((Int32 × mS) ⊕ (mS)) :=
  if (60 : Int32) ≤ q.1 then some (Sum.inr q.2) else if (q.2.1 16) ≤ q.1 then (mast q.2 45 (((60 : Int32) * y1) + q.1) (0 : Int32)).bind (fun σ4 => some (Sum.inl (q.1 + (1 : Int32), σ4))) else (mald q.2 21 q.1).bind (fun v5 => (mast q.2 45 (((60 : Int32) * y1) + q.1) v5).bind (fun σ6 => some (Sum.inl (q.1 + (1 : Int32), σ6))))
noncomputable def fX4_prove (x1 : Int32) (x2 : Int32) (σ : mS) : Option (Int32 × mS) :=
  if (fX4_isSheet x1) = (0 : Int32) then some ((-2 : Int32), σ) else if (fX4_in x2 (0 : Int32) (12 : Int32)) = (0 : Int32) then some ((-2 : Int32), σ) else (fX4_searchFor x2 (-1 : Int32) σ).bind (fun e1 => if e1.1 = (-1 : Int32) then if (e1.2.1 16) ≤ (60 : Int32) then (mast e1.2 43 x1 (1 : Int32)).bind (fun σ2 => (mast σ2 44 x1 (σ2.1 16)).bind (fun σ3 => (lpw (LX4_prove_63 x1) ((0 : Int32), σ3)).bind (fun b7 => some ((b7.1 16), b7)))) else some ((-4 : Int32), e1.2) else some ((-1 : Int32), e1.2))
theorem wi_X4_prove : wInfV yX4_prove cX4_prove 4 (Option.some Jvm.ClassFile.FieldType.int) 2 := ⟨q2921, q2922, q116, q2923, (by decide +kernel), (by decide +kernel), (by decide +kernel)⟩
set_option maxHeartbeats 4000000 in
set_option maxRecDepth 100000 in
theorem wbLX4_prove_63 {l : Launch} {G : mG} {p : Program} {e : Env} {s : State} {m : MethodId} {args : Array Value} {below : List Frame} {meth : Method} {c : Code} {Q : State → Prop} {y1 : Int32} {q : Int32 × mS} {res : (Int32 × mS) ⊕ (mS)} (S : mSt G p m c cX4_prove 4 s args meth (Option.some Jvm.ClassFile.FieldType.int)) (hf : LX4_prove_63 y1 q = some res) (hK : ∀ q, res = Sum.inl q → (∀ (H : Heap) (locs : List Loc) (ls : Array Slot), mR G q.2 H → va_S (mA G) s.heap H locs → lv_has ls 4 [(0, .ref (mo G)), (1, .int y1), (3, .int q.1)] → W p l e (mRm 37 967) s m args below meth c H locs 0 0 Q (F0 m 63 ls []))) (hE104 : ∀ b, res = Sum.inr b → (∀ (H : Heap) (locs : List Loc) (ls : Array Slot), mR G b H → va_S (mA G) s.heap H locs → lv_has ls 4 [(0, .ref (mo G))] → W p l e (mRm 37 967) s m args below meth c H locs 0 0 Q (F0 m 104 ls []))) : (∀ (H : Heap) (locs : List Loc) (ls : Array Slot), mR G q.2 H → va_S (mA G) s.heap H locs → lv_has ls 4 [(0, .ref (mo G)), (1, .int y1), (3, .int q.1)] → W p l e (mRm 37 967) s m args below meth c H locs 0 0 Q (F0 m 63 ls [])) := by
  replace hf : (if (60 : Int32) ≤ q.1 then some (Sum.inr q.2) else if (q.2.1 16) ≤ q.1 then (mast q.2 45 (((60 : Int32) * y1) + q.1) (0 : Int32)).bind (fun σ4 => some (Sum.inl (q.1 + (1 : Int32), σ4))) else (mald q.2 21 q.1).bind (fun v5 => (mast q.2 45 (((60 : Int32) * y1) + q.1) v5).bind (fun σ6 => some (Sum.inl (q.1 + (1 : Int32), σ6))))) = some res := hf
  obtain ⟨hx, hb, hml, hown, hts⟩ := S.1.1
  intro H locs ls hR hS hl
  refine lv_iload_n hx hb dX4_prove_63 rfl (lv_at hl 2 rfl) ?_
  refine lv_bipush (v := 60) hx hb dX4_prove_64 (by decide) ?_
  refine lv_icmp_ge (tgt := 104) hx hb dX4_prove_66 (by decide) (fun c_66 => ?_) (fun c_66 => ?_)
  · replace hf := o_t hf c_66
    exact hE104 _ (Option.some.inj hf).symm _ _ _ hR hS (lv_sub (l' := [(0, .ref (mo G))]) hl [0] rfl)
  · replace hf := o_f hf c_66
    refine lv_aload_n hx hb dX4_prove_69 rfl (lv_at hl 0 rfl) ?_
    refine m_geta (k := 45) S hR (by decide) (by decide) q2571 dX4_prove_70 ?_
    refine lv_bipush (v := 60) hx hb dX4_prove_73 (by decide) ?_
    refine lv_iload_n hx hb dX4_prove_75 rfl (lv_at hl 1 rfl) ?_
    refine lv_imul hx hb dX4_prove_76 ?_
    refine lv_iload_n hx hb dX4_prove_77 rfl (lv_at hl 2 rfl) ?_
    refine lv_iadd hx hb dX4_prove_78 ?_
    refine lv_iload_n hx hb dX4_prove_79 rfl (lv_at hl 2 rfl) ?_
    refine lv_aload_n hx hb dX4_prove_80 rfl (lv_at hl 0 rfl) ?_
    refine m_geti (k := 16) S hR (by decide) (by decide) q2542 dX4_prove_81 ?_
    refine lv_icmp_ge (tgt := 96) hx hb dX4_prove_84 (by decide) (fun c_84 => ?_) (fun c_84 => ?_)
    · replace hf := o_t hf c_84
      refine lv_iconst (v := 0) hx hb dX4_prove_96 (by decide) ?_
      refine k_bind hf (fun σ4 hσ4 hf => ?_)
      refine m_iast S hR hS hσ4 dX4_prove_97 (fun H locs hR hS => ?_)
      refine lv_iinc (lv' := [(3, .int (q.1 + (1 : Int32))), (0, .ref (mo G)), (1, .int y1)]) hx hb dX4_prove_98 hl (k := 2) rfl (m_inc (by decide)) (by decide) rfl (fun ls hl => ?_)
      refine lv_goto (tgt := 63) hx hb dX4_prove_101 (by decide) ?_
      exact hK _ (Option.some.inj hf).symm _ _ _ hR hS (lv_sub (l' := [(0, .ref (mo G)), (1, .int y1), (3, .int (q.1 + (1 : Int32)))]) hl [1, 2, 0] rfl)
    · replace hf := o_f hf c_84
      refine lv_aload_n hx hb dX4_prove_87 rfl (lv_at hl 0 rfl) ?_
      refine m_geta (k := 21) S hR (by decide) (by decide) q2547 dX4_prove_88 ?_
      refine lv_iload_n hx hb dX4_prove_91 rfl (lv_at hl 2 rfl) ?_
      refine k_bind hf (fun v5 hv5 hf => ?_)
      refine m_iald S hR hv5 dX4_prove_92 ?_
      refine lv_goto (tgt := 97) hx hb dX4_prove_93 (by decide) ?_
      refine k_bind hf (fun σ6 hσ6 hf => ?_)
      refine m_iast S hR hS hσ6 dX4_prove_97 (fun H locs hR hS => ?_)
      refine lv_iinc (lv' := [(3, .int (q.1 + (1 : Int32))), (0, .ref (mo G)), (1, .int y1)]) hx hb dX4_prove_98 hl (k := 2) rfl (m_inc (by decide)) (by decide) rfl (fun ls hl => ?_)
      refine lv_goto (tgt := 63) hx hb dX4_prove_101 (by decide) ?_
      exact hK _ (Option.some.inj hf).symm _ _ _ hR hS (lv_sub (l' := [(0, .ref (mo G)), (1, .int y1), (3, .int (q.1 + (1 : Int32)))]) hl [1, 2, 0] rfl)
set_option maxHeartbeats 4000000 in
set_option maxRecDepth 100000 in
theorem wLX4_prove_63 {l : Launch} {G : mG} {p : Program} {e : Env} {s : State} {m : MethodId} {args : Array Value} {below : List Frame} {meth : Method} {c : Code} {Q : State → Prop} {y1 : Int32} {q : Int32 × mS} {res : mS} (S : mSt G p m c cX4_prove 4 s args meth (Option.some Jvm.ClassFile.FieldType.int)) (h : lpw (LX4_prove_63 y1) q = some res) (hE104 : ∀ b, res = b → (∀ (H : Heap) (locs : List Loc) (ls : Array Slot), mR G b H → va_S (mA G) s.heap H locs → lv_has ls 4 [(0, .ref (mo G))] → W p l e (mRm 37 967) s m args below meth c H locs 0 0 Q (F0 m 104 ls []))) : (∀ (H : Heap) (locs : List Loc) (ls : Array Slot), mR G q.2 H → va_S (mA G) s.heap H locs → lv_has ls 4 [(0, .ref (mo G)), (1, .int y1), (3, .int q.1)] → W p l e (mRm 37 967) s m args below meth c H locs 0 0 Q (F0 m 63 ls [])) :=
  lpw_go _ (fun q => (∀ (H : Heap) (locs : List Loc) (ls : Array Slot), mR G q.2 H → va_S (mA G) s.heap H locs → lv_has ls 4 [(0, .ref (mo G)), (1, .int y1), (3, .int q.1)] → W p l e (mRm 37 967) s m args below meth c H locs 0 0 Q (F0 m 63 ls []))) (fun b0 => (∀ b, b0 = b → (∀ (H : Heap) (locs : List Loc) (ls : Array Slot), mR G b H → va_S (mA G) s.heap H locs → lv_has ls 4 [(0, .ref (mo G))] → W p l e (mRm 37 967) s m args below meth c H locs 0 0 Q (F0 m 104 ls [])))) (fun q x hf hK hX => wbLX4_prove_63 S hf hK (fun b eb => (hX _ eb) b rfl)) q res h hE104
set_option maxHeartbeats 4000000 in
set_option maxRecDepth 100000 in
theorem met_X4_prove {l : Launch} {G : mG} {x1 : Int32} {x2 : Int32} {σ : mS} {res : Int32 × mS} (hf : fX4_prove x1 x2 σ = some res) : mMet l yX4_prove cX4_prove 4 (Option.some Jvm.ClassFile.FieldType.int) (mRm 37 967) G [.ref (mo G), .int x1, .int x2] σ (some (.int res.1)) res.2 := by
  replace hf : (if (fX4_isSheet x1) = (0 : Int32) then some ((-2 : Int32), σ) else if (fX4_in x2 (0 : Int32) (12 : Int32)) = (0 : Int32) then some ((-2 : Int32), σ) else (fX4_searchFor x2 (-1 : Int32) σ).bind (fun e1 => if e1.1 = (-1 : Int32) then if (e1.2.1 16) ≤ (60 : Int32) then (mast e1.2 43 x1 (1 : Int32)).bind (fun σ2 => (mast σ2 44 x1 (σ2.1 16)).bind (fun σ3 => (lpw (LX4_prove_63 x1) ((0 : Int32), σ3)).bind (fun b7 => some ((b7.1 16), b7)))) else some ((-4 : Int32), e1.2) else some ((-1 : Int32), e1.2))) = some res := hf
  refine m_start (by decide) rfl (Nat.le_of_ble_eq_true rfl) ?_
  intro p e s m args below meth c S hR hS ls hl
  obtain ⟨hx, hb, hml, hown, hts⟩ := S.1.1
  have hl : lv_has ls 4 [(0, .ref (mo G)), (1, .int x1), (2, .int x2)] := hl
  refine lv_iload_n hx hb dX4_prove_0 rfl (lv_at hl 1 rfl) ?_
  refine s_call (As := [.int x1]) (rest := []) S.1.1 (met_X4_isSheet rfl) wi_X4_isSheet q2893 ⟨rfl, rfl⟩ ⟨Nat.le_of_ble_eq_true rfl, Nat.le_of_ble_eq_true rfl⟩ rfl hl.1 rfl (Nat.le_of_ble_eq_true rfl) dX4_prove_1 ⟨Nat.zero_le _, Nat.zero_le _⟩ ?_
  refine lv_if_eq (tgt := 17) hx hb dX4_prove_4 (by decide) (fun c_4 => ?_) (fun c_4 => ?_)
  · replace hf := o_t hf c_4
    refine lv_bipush (v := -2) hx hb dX4_prove_17 (by decide) ?_
    obtain rfl := Option.some.inj hf
    exact m_iret S hR hS rfl dX4_prove_19
  · replace hf := o_f hf c_4
    refine lv_iload_n hx hb dX4_prove_7 rfl (lv_at hl 2 rfl) ?_
    refine lv_iconst (v := 0) hx hb dX4_prove_8 (by decide) ?_
    refine lv_bipush (v := 12) hx hb dX4_prove_9 (by decide) ?_
    refine s_call (As := [.int x2, .int (0 : Int32), .int (12 : Int32)]) (rest := []) S.1.1 (met_X4_in rfl) wi_X4_in q2681 ⟨rfl, rfl⟩ ⟨Nat.le_of_ble_eq_true rfl, Nat.le_of_ble_eq_true rfl⟩ rfl hl.1 rfl (Nat.le_of_ble_eq_true rfl) dX4_prove_11 ⟨Nat.zero_le _, Nat.zero_le _⟩ ?_
    refine lv_if_ne (tgt := 20) hx hb dX4_prove_14 (by decide) (fun c_14 => ?_) (fun c_14 => ?_)
    · replace hf := o_f hf c_14
      refine lv_aload_n hx hb dX4_prove_20 rfl (lv_at hl 0 rfl) ?_
      refine lv_iload_n hx hb dX4_prove_21 rfl (lv_at hl 2 rfl) ?_
      refine lv_iconst (v := -1) hx hb dX4_prove_22 (by decide) ?_
      refine k_bind hf (fun e1 he1 hf => ?_)
      refine m_call (As := [.int x2, .int (-1 : Int32)]) (rest := []) S hR hS (met_X4_searchFor he1) wi_X4_searchFor rfl q2904 ⟨rfl, rfl⟩ ⟨Nat.le_of_ble_eq_true rfl, Nat.le_of_ble_eq_true rfl⟩ rfl hl.1 rfl (Nat.le_of_ble_eq_true rfl) dX4_prove_23 (fun H locs hR hS => ?_)
      refine lv_iconst (v := -1) hx hb dX4_prove_26 (by decide) ?_
      refine lv_icmp_eq (tgt := 32) hx hb dX4_prove_27 (by decide) (fun c_27 => ?_) (fun c_27 => ?_)
      · replace hf := o_t hf c_27
        refine lv_aload_n hx hb dX4_prove_32 rfl (lv_at hl 0 rfl) ?_
        refine m_geti (k := 16) S hR (by decide) (by decide) q2542 dX4_prove_33 ?_
        refine lv_bipush (v := 60) hx hb dX4_prove_36 (by decide) ?_
        refine lv_icmp_le (tgt := 44) hx hb dX4_prove_38 (by decide) (fun c_38 => ?_) (fun c_38 => ?_)
        · replace hf := o_t hf c_38
          refine lv_aload_n hx hb dX4_prove_44 rfl (lv_at hl 0 rfl) ?_
          refine m_geta (k := 43) S hR (by decide) (by decide) q2569 dX4_prove_45 ?_
          refine lv_iload_n hx hb dX4_prove_48 rfl (lv_at hl 1 rfl) ?_
          refine lv_iconst (v := 1) hx hb dX4_prove_49 (by decide) ?_
          refine k_bind hf (fun σ2 hσ2 hf => ?_)
          refine m_iast S hR hS hσ2 dX4_prove_50 (fun H locs hR hS => ?_)
          refine lv_aload_n hx hb dX4_prove_51 rfl (lv_at hl 0 rfl) ?_
          refine m_geta (k := 44) S hR (by decide) (by decide) q2570 dX4_prove_52 ?_
          refine lv_iload_n hx hb dX4_prove_55 rfl (lv_at hl 1 rfl) ?_
          refine lv_aload_n hx hb dX4_prove_56 rfl (lv_at hl 0 rfl) ?_
          refine m_geti (k := 16) S hR (by decide) (by decide) q2542 dX4_prove_57 ?_
          refine k_bind hf (fun σ3 hσ3 hf => ?_)
          refine m_iast S hR hS hσ3 dX4_prove_60 (fun H locs hR hS => ?_)
          refine lv_iconst (v := 0) hx hb dX4_prove_61 (by decide) ?_
          refine lv_istore_n (lv' := [(3, .int (0 : Int32)), (0, .ref (mo G)), (1, .int x1), (2, .int x2)]) hx hb dX4_prove_62 rfl hl (by decide) rfl (fun ls hl => ?_)
          refine k_bind hf (fun b7 hb7 hf => ?_)
          refine wLX4_prove_63 S hb7 ?_ _ _ _ hR hS (lv_sub (l' := [(0, .ref (mo G)), (1, .int x1), (3, .int (0 : Int32))]) hl [1, 2, 0] rfl)
          · intro b eb; subst eb; intro H locs ls hR hS hl
            refine lv_aload_n hx hb dX4_prove_104 rfl (lv_at hl 0 rfl) ?_
            refine m_geti (k := 16) S hR (by decide) (by decide) q2542 dX4_prove_105 ?_
            obtain rfl := Option.some.inj hf
            exact m_iret S hR hS rfl dX4_prove_108
        · replace hf := o_f hf c_38
          refine lv_bipush (v := -4) hx hb dX4_prove_41 (by decide) ?_
          obtain rfl := Option.some.inj hf
          exact m_iret S hR hS rfl dX4_prove_43
      · replace hf := o_f hf c_27
        refine lv_iconst (v := -1) hx hb dX4_prove_30 (by decide) ?_
        obtain rfl := Option.some.inj hf
        exact m_iret S hR hS rfl dX4_prove_31
    · replace hf := o_t hf c_14
      refine lv_bipush (v := -2) hx hb dX4_prove_17 (by decide) ?_
      obtain rfl := Option.some.inj hf
      exact m_iret S hR hS rfl dX4_prove_19

noncomputable def JX4_isTold_131 (rec : Int32 → Int32 → Int32 → Int32 → mS → Option (Int32 × mS)) (y1 : Int32) (y2 : Int32) (y3 : Int32) (y4 : Int32) (y5 : Int32) (y6 : Int32) (z0 : Int32) (σ : mS) : Option ((Int32 × mS) ⊕ ((mS) ⊕ (mS))) :=
  (fX4_bits z0).bind (fun v6 => (rec y1 (y2 &&& ((z0 ||| (ish (1 : Int32) y5)) ^^^ (-1 : Int32))) (y3 - v6) (y4 + (1 : Int32)) σ).bind (fun e7 => if e7.1 = (0 : Int32) then some (Sum.inr (Sum.inl e7.2)) else some (Sum.inl (y6 + (1 : Int32), e7.2))))
noncomputable def LX4_isTold_94 (rec : Int32 → Int32 → Int32 → Int32 → mS → Option (Int32 × mS)) (y1 : Int32) (y2 : Int32) (y3 : Int32) (y4 : Int32) (y5 : Int32) (q : Int32 × mS) : Option ((Int32 × mS) ⊕ ((mS) ⊕ (mS))) :=
  if y5 = (-1 : Int32) then some (Sum.inr (Sum.inr q.2)) else if (2 : Int32) ≤ q.1 then some (Sum.inr (Sum.inr q.2)) else if q.1 = (irm y4 (2 : Int32)) then JX4_isTold_131 rec y1 y2 y3 y4 y5 q.1 (ish (1 : Int32) y5) q.2 else (mald q.2 4 y5).bind (fun v5 => JX4_isTold_131 rec y1 y2 y3 y4 y5 q.1 (v5 &&& y2) q.2)
noncomputable def JX4_isTold_81 (rec : Int32 → Int32 → Int32 → Int32 → mS → Option (Int32 × mS)) (y1 : Int32) (y2 : Int32) (y3 : Int32) (y4 : Int32) (y5 : Int32) (σ : mS) : Option (Int32 × mS) :=
  (mput σ 22 ((σ.1 22) + (1 : Int32))).bind (fun σ4 => (lpw (LX4_isTold_94 rec y1 y2 y3 y4 y5) ((0 : Int32), σ4)).bind ((fun e => Sum.elim (fun b9 => some ((0 : Int32), b9)) (fun b10 => some ((1 : Int32), b10)) e)))
noncomputable def BX4_isTold (rec : Int32 → Int32 → Int32 → Int32 → mS → Option (Int32 × mS)) (x1 : Int32) (x2 : Int32) (x3 : Int32) (x4 : Int32) (σ : mS) : Option (Int32 × mS) :=
  (mald σ 44 x1).bind (fun v1 => if (σ.1 22) < v1 then (mald σ 45 (((60 : Int32) * x1) + (σ.1 22))).bind (fun v2 => if v2 = (-1 : Int32) then (fX4_leastHalves x2 σ).bind (fun e11 => if ((2 : Int32) * x3) < e11.1 then JX4_isTold_81 rec x1 x2 x3 x4 v2 e11.2 else some ((0 : Int32), e11.2)) else if (fX4_isPoint v2 σ) = (0 : Int32) then some ((0 : Int32), σ) else if (fX4_has x2 v2) = (0 : Int32) then some ((0 : Int32), σ) else (fX4_degree v2 x2 σ).bind (fun v3 => if v3 = (0 : Int32) then some ((0 : Int32), σ) else JX4_isTold_81 rec x1 x2 x3 x4 v2 σ)) else some ((0 : Int32), σ))
noncomputable def fX4_isTold : Nat → Int32 → Int32 → Int32 → Int32 → mS → Option (Int32 × mS)
  | 0 => fun _ _ _ _ _ => none
  | d + 1 => BX4_isTold (fX4_isTold d)
theorem wi_X4_isTold : wInfV yX4_isTold cX4_isTold 8 (Option.some Jvm.ClassFile.FieldType.boolean) 4 := ⟨q2930, qs87, q116, q2931, (by decide +kernel), (by decide +kernel), (by decide +kernel)⟩
set_option maxHeartbeats 4000000 in
set_option maxRecDepth 100000 in
theorem wJX4_isTold_131 {l : Launch} {G : mG} {p : Program} {e : Env} {s : State} {m : MethodId} {args : Array Value} {below : List Frame} {meth : Method} {c : Code} {d : Nat} {rec : Int32 → Int32 → Int32 → Int32 → mS → Option (Int32 × mS)} {Q : State → Prop} {y1 : Int32} {y2 : Int32} {y3 : Int32} {y4 : Int32} {y5 : Int32} {y6 : Int32} {z0 : Int32} {σ : mS} {res : (Int32 × mS) ⊕ ((mS) ⊕ (mS))} (S : mSt G p m c cX4_isTold 8 s args meth (Option.some Jvm.ClassFile.FieldType.boolean)) (hrec : ∀ {x1 : Int32} {x2 : Int32} {x3 : Int32} {x4 : Int32} {σ : mS} {res : Int32 × mS}, rec x1 x2 x3 x4 σ = some res → mMet l yX4_isTold cX4_isTold 8 (Option.some Jvm.ClassFile.FieldType.boolean) (mRm (d + 19) (27 * (d) + 435)) G [.ref (mo G), .int x1, .int x2, .int x3, .int x4] σ (some (.int res.1)) res.2) (hf : JX4_isTold_131 rec y1 y2 y3 y4 y5 y6 z0 σ = some res) (hK : ∀ q, res = Sum.inl q → (∀ (H : Heap) (locs : List Loc) (ls : Array Slot), mR G q.2 H → va_S (mA G) s.heap H locs → lv_has ls 8 [(0, .ref (mo G)), (1, .int y1), (2, .int y2), (3, .int y3), (4, .int y4), (5, .int y5), (6, .int q.1)] → W p l e (mRm (d + 1 + 19) (27 * (d + 1) + 435)) s m args below meth c H locs 0 0 Q (F0 m 94 ls []))) (hE163 : ∀ b, res = Sum.inr (Sum.inl b) → (∀ (H : Heap) (locs : List Loc) (ls : Array Slot), mR G b H → va_S (mA G) s.heap H locs → lv_has ls 8 [(0, .ref (mo G))] → W p l e (mRm (d + 1 + 19) (27 * (d + 1) + 435)) s m args below meth c H locs 0 0 Q (F0 m 163 ls []))) (hE171 : ∀ b, res = Sum.inr (Sum.inr b) → (∀ (H : Heap) (locs : List Loc) (ls : Array Slot), mR G b H → va_S (mA G) s.heap H locs → lv_has ls 8 [(0, .ref (mo G))] → W p l e (mRm (d + 1 + 19) (27 * (d + 1) + 435)) s m args below meth c H locs 0 0 Q (F0 m 171 ls []))) : ∀ (H : Heap) (locs : List Loc) (ls : Array Slot), mR G σ H → va_S (mA G) s.heap H locs → lv_has ls 8 [(0, .ref (mo G)), (1, .int y1), (2, .int y2), (3, .int y3), (4, .int y4), (5, .int y5), (6, .int y6)] → W p l e (mRm (d + 1 + 19) (27 * (d + 1) + 435)) s m args below meth c H locs 0 0 Q (F0 m 131 ls [.int z0]) := by
  replace hf : ((fX4_bits z0).bind (fun v6 => (rec y1 (y2 &&& ((z0 ||| (ish (1 : Int32) y5)) ^^^ (-1 : Int32))) (y3 - v6) (y4 + (1 : Int32)) σ).bind (fun e7 => if e7.1 = (0 : Int32) then some (Sum.inr (Sum.inl e7.2)) else some (Sum.inl (y6 + (1 : Int32), e7.2))))) = some res := hf
  obtain ⟨hx, hb, hml, hown, hts⟩ := S.1.1
  intro H locs ls hR hS hl
  refine lv_istore (lv' := [(7, .int z0), (0, .ref (mo G)), (1, .int y1), (2, .int y2), (3, .int y3), (4, .int y4), (5, .int y5), (6, .int y6)]) hx hb dX4_isTold_131 hl (by decide) rfl (fun ls hl => ?_)
  refine lv_aload_n hx hb dX4_isTold_133 rfl (lv_at hl 1 rfl) ?_
  refine lv_iload_n hx hb dX4_isTold_134 rfl (lv_at hl 2 rfl) ?_
  refine lv_iload_n hx hb dX4_isTold_135 rfl (lv_at hl 3 rfl) ?_
  refine lv_iload hx hb dX4_isTold_136 (lv_at hl 0 rfl) ?_
  refine lv_iconst (v := 1) hx hb dX4_isTold_138 (by decide) ?_
  refine lv_iload hx hb dX4_isTold_139 (lv_at hl 6 rfl) ?_
  refine lv_ishl hx hb dX4_isTold_141 ?_
  refine lv_ior hx hb dX4_isTold_142 ?_
  refine lv_iconst (v := -1) hx hb dX4_isTold_143 (by decide) ?_
  refine lv_ixor hx hb dX4_isTold_144 ?_
  refine lv_iand hx hb dX4_isTold_145 ?_
  refine lv_iload_n hx hb dX4_isTold_146 rfl (lv_at hl 4 rfl) ?_
  refine lv_iload hx hb dX4_isTold_147 (lv_at hl 0 rfl) ?_
  refine k_bind hf (fun v6 hv6 hf => ?_)
  refine s_call (As := [.int z0]) (rest := [.int y3, .int (y2 &&& ((z0 ||| (ish (1 : Int32) y5)) ^^^ (-1 : Int32))), .int y1, .ref (mo G)]) S.1.1 (met_X4_bits hv6) wi_X4_bits q2712 ⟨rfl, rfl⟩ ⟨by simp only [mRm]; omega, by simp only [mRm]; omega⟩ rfl hl.1 rfl (Nat.le_of_ble_eq_true rfl) dX4_isTold_149 ⟨Nat.zero_le _, Nat.zero_le _⟩ ?_
  refine lv_isub hx hb dX4_isTold_152 ?_
  refine lv_iload hx hb dX4_isTold_153 (lv_at hl 5 rfl) ?_
  refine lv_iconst (v := 1) hx hb dX4_isTold_155 (by decide) ?_
  refine lv_iadd hx hb dX4_isTold_156 ?_
  refine k_bind hf (fun e7 he7 hf => ?_)
  refine m_call (As := [.int y1, .int (y2 &&& ((z0 ||| (ish (1 : Int32) y5)) ^^^ (-1 : Int32))), .int (y3 - v6), .int (y4 + (1 : Int32))]) (rest := []) S hR hS (hrec he7) wi_X4_isTold rfl q2928 ⟨rfl, rfl⟩ ⟨by simp only [mRm]; omega, by simp only [mRm]; omega⟩ rfl hl.1 rfl (Nat.le_of_ble_eq_true rfl) dX4_isTold_157 (fun H locs hR hS => ?_)
  refine lv_if_ne (tgt := 165) hx hb dX4_isTold_160 (by decide) (fun c_160 => ?_) (fun c_160 => ?_)
  · replace hf := o_f hf c_160
    refine lv_iinc (lv' := [(6, .int (y6 + (1 : Int32))), (7, .int z0), (0, .ref (mo G)), (1, .int y1), (2, .int y2), (3, .int y3), (4, .int y4), (5, .int y5)]) hx hb dX4_isTold_165 hl (k := 7) rfl (m_inc (by decide)) (by decide) rfl (fun ls hl => ?_)
    refine lv_goto (tgt := 94) hx hb dX4_isTold_168 (by decide) ?_
    exact hK _ (Option.some.inj hf).symm _ _ _ hR hS (lv_sub (l' := [(0, .ref (mo G)), (1, .int y1), (2, .int y2), (3, .int y3), (4, .int y4), (5, .int y5), (6, .int (y6 + (1 : Int32)))]) hl [2, 3, 4, 5, 6, 7, 0] rfl)
  · replace hf := o_t hf c_160
    exact hE163 _ (Option.some.inj hf).symm _ _ _ hR hS (lv_sub (l' := [(0, .ref (mo G))]) hl [1] rfl)
set_option maxHeartbeats 4000000 in
set_option maxRecDepth 100000 in
theorem wbLX4_isTold_94 {l : Launch} {G : mG} {p : Program} {e : Env} {s : State} {m : MethodId} {args : Array Value} {below : List Frame} {meth : Method} {c : Code} {d : Nat} {rec : Int32 → Int32 → Int32 → Int32 → mS → Option (Int32 × mS)} {Q : State → Prop} {y1 : Int32} {y2 : Int32} {y3 : Int32} {y4 : Int32} {y5 : Int32} {q : Int32 × mS} {res : (Int32 × mS) ⊕ ((mS) ⊕ (mS))} (S : mSt G p m c cX4_isTold 8 s args meth (Option.some Jvm.ClassFile.FieldType.boolean)) (hrec : ∀ {x1 : Int32} {x2 : Int32} {x3 : Int32} {x4 : Int32} {σ : mS} {res : Int32 × mS}, rec x1 x2 x3 x4 σ = some res → mMet l yX4_isTold cX4_isTold 8 (Option.some Jvm.ClassFile.FieldType.boolean) (mRm (d + 19) (27 * (d) + 435)) G [.ref (mo G), .int x1, .int x2, .int x3, .int x4] σ (some (.int res.1)) res.2) (hf : LX4_isTold_94 rec y1 y2 y3 y4 y5 q = some res) (hK : ∀ q, res = Sum.inl q → (∀ (H : Heap) (locs : List Loc) (ls : Array Slot), mR G q.2 H → va_S (mA G) s.heap H locs → lv_has ls 8 [(0, .ref (mo G)), (1, .int y1), (2, .int y2), (3, .int y3), (4, .int y4), (5, .int y5), (6, .int q.1)] → W p l e (mRm (d + 1 + 19) (27 * (d + 1) + 435)) s m args below meth c H locs 0 0 Q (F0 m 94 ls []))) (hE163 : ∀ b, res = Sum.inr (Sum.inl b) → (∀ (H : Heap) (locs : List Loc) (ls : Array Slot), mR G b H → va_S (mA G) s.heap H locs → lv_has ls 8 [(0, .ref (mo G))] → W p l e (mRm (d + 1 + 19) (27 * (d + 1) + 435)) s m args below meth c H locs 0 0 Q (F0 m 163 ls []))) (hE171 : ∀ b, res = Sum.inr (Sum.inr b) → (∀ (H : Heap) (locs : List Loc) (ls : Array Slot), mR G b H → va_S (mA G) s.heap H locs → lv_has ls 8 [(0, .ref (mo G))] → W p l e (mRm (d + 1 + 19) (27 * (d + 1) + 435)) s m args below meth c H locs 0 0 Q (F0 m 171 ls []))) : (∀ (H : Heap) (locs : List Loc) (ls : Array Slot), mR G q.2 H → va_S (mA G) s.heap H locs → lv_has ls 8 [(0, .ref (mo G)), (1, .int y1), (2, .int y2), (3, .int y3), (4, .int y4), (5, .int y5), (6, .int q.1)] → W p l e (mRm (d + 1 + 19) (27 * (d + 1) + 435)) s m args below meth c H locs 0 0 Q (F0 m 94 ls [])) := by
  replace hf : (if y5 = (-1 : Int32) then some (Sum.inr (Sum.inr q.2)) else if (2 : Int32) ≤ q.1 then some (Sum.inr (Sum.inr q.2)) else if q.1 = (irm y4 (2 : Int32)) then JX4_isTold_131 rec y1 y2 y3 y4 y5 q.1 (ish (1 : Int32) y5) q.2 else (mald q.2 4 y5).bind (fun v5 => JX4_isTold_131 rec y1 y2 y3 y4 y5 q.1 (v5 &&& y2) q.2)) = some res := hf
  obtain ⟨hx, hb, hml, hown, hts⟩ := S.1.1
  intro H locs ls hR hS hl
  refine lv_iload hx hb dX4_isTold_94 (lv_at hl 5 rfl) ?_
  refine lv_iconst (v := -1) hx hb dX4_isTold_96 (by decide) ?_
  refine lv_icmp_eq (tgt := 171) hx hb dX4_isTold_97 (by decide) (fun c_97 => ?_) (fun c_97 => ?_)
  · replace hf := o_t hf c_97
    exact hE171 _ (Option.some.inj hf).symm _ _ _ hR hS (lv_sub (l' := [(0, .ref (mo G))]) hl [0] rfl)
  · replace hf := o_f hf c_97
    refine lv_iload hx hb dX4_isTold_100 (lv_at hl 6 rfl) ?_
    refine lv_iconst (v := 2) hx hb dX4_isTold_102 (by decide) ?_
    refine lv_icmp_ge (tgt := 171) hx hb dX4_isTold_103 (by decide) (fun c_103 => ?_) (fun c_103 => ?_)
    · replace hf := o_t hf c_103
      exact hE171 _ (Option.some.inj hf).symm _ _ _ hR hS (lv_sub (l' := [(0, .ref (mo G))]) hl [0] rfl)
    · replace hf := o_f hf c_103
      refine lv_iload hx hb dX4_isTold_106 (lv_at hl 6 rfl) ?_
      refine lv_iload hx hb dX4_isTold_108 (lv_at hl 4 rfl) ?_
      refine lv_iconst (v := 2) hx hb dX4_isTold_110 (by decide) ?_
      refine lv_irem hx hb dX4_isTold_111 (by decide) ?_
      refine lv_icmp_ne (tgt := 122) hx hb dX4_isTold_112 (by decide) (fun c_112 => ?_) (fun c_112 => ?_)
      · replace hf := o_f hf c_112
        refine lv_aload_n hx hb dX4_isTold_122 rfl (lv_at hl 0 rfl) ?_
        refine m_geta (k := 4) S hR (by decide) (by decide) q2530 dX4_isTold_123 ?_
        refine lv_iload hx hb dX4_isTold_126 (lv_at hl 5 rfl) ?_
        refine k_bind hf (fun v5 hv5 hf => ?_)
        refine m_iald S hR hv5 dX4_isTold_128 ?_
        refine lv_iload_n hx hb dX4_isTold_129 rfl (lv_at hl 2 rfl) ?_
        refine lv_iand hx hb dX4_isTold_130 ?_
        exact wJX4_isTold_131 S hrec hf hK hE163 hE171 _ _ _ hR hS hl
      · replace hf := o_t hf c_112
        refine lv_iconst (v := 1) hx hb dX4_isTold_115 (by decide) ?_
        refine lv_iload hx hb dX4_isTold_116 (lv_at hl 5 rfl) ?_
        refine lv_ishl hx hb dX4_isTold_118 ?_
        refine lv_goto (tgt := 131) hx hb dX4_isTold_119 (by decide) ?_
        exact wJX4_isTold_131 S hrec hf hK hE163 hE171 _ _ _ hR hS hl
set_option maxHeartbeats 4000000 in
set_option maxRecDepth 100000 in
theorem wLX4_isTold_94 {l : Launch} {G : mG} {p : Program} {e : Env} {s : State} {m : MethodId} {args : Array Value} {below : List Frame} {meth : Method} {c : Code} {d : Nat} {rec : Int32 → Int32 → Int32 → Int32 → mS → Option (Int32 × mS)} {Q : State → Prop} {y1 : Int32} {y2 : Int32} {y3 : Int32} {y4 : Int32} {y5 : Int32} {q : Int32 × mS} {res : (mS) ⊕ (mS)} (S : mSt G p m c cX4_isTold 8 s args meth (Option.some Jvm.ClassFile.FieldType.boolean)) (hrec : ∀ {x1 : Int32} {x2 : Int32} {x3 : Int32} {x4 : Int32} {σ : mS} {res : Int32 × mS}, rec x1 x2 x3 x4 σ = some res → mMet l yX4_isTold cX4_isTold 8 (Option.some Jvm.ClassFile.FieldType.boolean) (mRm (d + 19) (27 * (d) + 435)) G [.ref (mo G), .int x1, .int x2, .int x3, .int x4] σ (some (.int res.1)) res.2) (h : lpw (LX4_isTold_94 rec y1 y2 y3 y4 y5) q = some res) (hE163 : ∀ b, res = (Sum.inl b) → (∀ (H : Heap) (locs : List Loc) (ls : Array Slot), mR G b H → va_S (mA G) s.heap H locs → lv_has ls 8 [(0, .ref (mo G))] → W p l e (mRm (d + 1 + 19) (27 * (d + 1) + 435)) s m args below meth c H locs 0 0 Q (F0 m 163 ls []))) (hE171 : ∀ b, res = (Sum.inr b) → (∀ (H : Heap) (locs : List Loc) (ls : Array Slot), mR G b H → va_S (mA G) s.heap H locs → lv_has ls 8 [(0, .ref (mo G))] → W p l e (mRm (d + 1 + 19) (27 * (d + 1) + 435)) s m args below meth c H locs 0 0 Q (F0 m 171 ls []))) : (∀ (H : Heap) (locs : List Loc) (ls : Array Slot), mR G q.2 H → va_S (mA G) s.heap H locs → lv_has ls 8 [(0, .ref (mo G)), (1, .int y1), (2, .int y2), (3, .int y3), (4, .int y4), (5, .int y5), (6, .int q.1)] → W p l e (mRm (d + 1 + 19) (27 * (d + 1) + 435)) s m args below meth c H locs 0 0 Q (F0 m 94 ls [])) :=
  lpw_go _ (fun q => (∀ (H : Heap) (locs : List Loc) (ls : Array Slot), mR G q.2 H → va_S (mA G) s.heap H locs → lv_has ls 8 [(0, .ref (mo G)), (1, .int y1), (2, .int y2), (3, .int y3), (4, .int y4), (5, .int y5), (6, .int q.1)] → W p l e (mRm (d + 1 + 19) (27 * (d + 1) + 435)) s m args below meth c H locs 0 0 Q (F0 m 94 ls []))) (fun b0 => (∀ b, b0 = (Sum.inl b) → (∀ (H : Heap) (locs : List Loc) (ls : Array Slot), mR G b H → va_S (mA G) s.heap H locs → lv_has ls 8 [(0, .ref (mo G))] → W p l e (mRm (d + 1 + 19) (27 * (d + 1) + 435)) s m args below meth c H locs 0 0 Q (F0 m 163 ls []))) ∧ (∀ b, b0 = (Sum.inr b) → (∀ (H : Heap) (locs : List Loc) (ls : Array Slot), mR G b H → va_S (mA G) s.heap H locs → lv_has ls 8 [(0, .ref (mo G))] → W p l e (mRm (d + 1 + 19) (27 * (d + 1) + 435)) s m args below meth c H locs 0 0 Q (F0 m 171 ls [])))) (fun q x hf hK hX => wbLX4_isTold_94 S hrec hf hK (fun b eb => (hX _ eb).1 b rfl) (fun b eb => (hX _ eb).2 b rfl)) q res h ⟨hE163, hE171⟩
set_option maxHeartbeats 4000000 in
set_option maxRecDepth 100000 in
theorem wJX4_isTold_81 {l : Launch} {G : mG} {p : Program} {e : Env} {s : State} {m : MethodId} {args : Array Value} {below : List Frame} {meth : Method} {c : Code} {d : Nat} {rec : Int32 → Int32 → Int32 → Int32 → mS → Option (Int32 × mS)} {y1 : Int32} {y2 : Int32} {y3 : Int32} {y4 : Int32} {y5 : Int32} {σ : mS} {res : Int32 × mS} (S : mSt G p m c cX4_isTold 8 s args meth (Option.some Jvm.ClassFile.FieldType.boolean)) (hrec : ∀ {x1 : Int32} {x2 : Int32} {x3 : Int32} {x4 : Int32} {σ : mS} {res : Int32 × mS}, rec x1 x2 x3 x4 σ = some res → mMet l yX4_isTold cX4_isTold 8 (Option.some Jvm.ClassFile.FieldType.boolean) (mRm (d + 19) (27 * (d) + 435)) G [.ref (mo G), .int x1, .int x2, .int x3, .int x4] σ (some (.int res.1)) res.2) (hf : JX4_isTold_81 rec y1 y2 y3 y4 y5 σ = some res) : ∀ (H : Heap) (locs : List Loc) (ls : Array Slot), mR G σ H → va_S (mA G) s.heap H locs → lv_has ls 8 [(0, .ref (mo G)), (1, .int y1), (2, .int y2), (3, .int y3), (4, .int y4), (5, .int y5)] → W p l e (mRm (d + 1 + 19) (27 * (d + 1) + 435)) s m args below meth c H locs 0 0 (MQ below (mQ G (some (.int res.1)) res.2) args s 0 0 (mA G)) (F0 m 81 ls []) := by
  replace hf : ((mput σ 22 ((σ.1 22) + (1 : Int32))).bind (fun σ4 => (lpw (LX4_isTold_94 rec y1 y2 y3 y4 y5) ((0 : Int32), σ4)).bind ((fun e => Sum.elim (fun b9 => some ((0 : Int32), b9)) (fun b10 => some ((1 : Int32), b10)) e)))) = some res := hf
  obtain ⟨hx, hb, hml, hown, hts⟩ := S.1.1
  intro H locs ls hR hS hl
  refine lv_aload_n hx hb dX4_isTold_81 rfl (lv_at hl 0 rfl) ?_
  refine lv_dup hx hb dX4_isTold_82 rfl ?_
  refine m_geti (k := 22) S hR (by decide) (by decide) q2548 dX4_isTold_83 ?_
  refine lv_iconst (v := 1) hx hb dX4_isTold_86 (by decide) ?_
  refine lv_iadd hx hb dX4_isTold_87 ?_
  refine k_bind hf (fun σ4 hσ4 hf => ?_)
  refine m_puti (k := 22) S hR hS hσ4 (by decide) (by decide) rfl rfl rfl rfl q2548 dX4_isTold_88 (fun H locs hR hS => ?_)
  refine lv_iconst (v := 0) hx hb dX4_isTold_91 (by decide) ?_
  refine lv_istore (lv' := [(6, .int (0 : Int32)), (0, .ref (mo G)), (1, .int y1), (2, .int y2), (3, .int y3), (4, .int y4), (5, .int y5)]) hx hb dX4_isTold_92 hl (by decide) rfl (fun ls hl => ?_)
  refine k_bind hf (fun b8 hb8 hf => ?_)
  refine wLX4_isTold_94 S hrec hb8 ?_ ?_ _ _ _ hR hS (lv_sub (l' := [(0, .ref (mo G)), (1, .int y1), (2, .int y2), (3, .int y3), (4, .int y4), (5, .int y5), (6, .int (0 : Int32))]) hl [1, 2, 3, 4, 5, 6, 0] rfl)
  · intro b9 eb; subst eb; intro H locs ls hR hS hl
    replace hf := o_l hf
    refine lv_iconst (v := 0) hx hb dX4_isTold_163 (by decide) ?_
    obtain rfl := Option.some.inj hf
    exact m_iret S hR hS rfl dX4_isTold_164
  · intro b10 eb; subst eb; intro H locs ls hR hS hl
    replace hf := o_r hf
    refine lv_iconst (v := 1) hx hb dX4_isTold_171 (by decide) ?_
    obtain rfl := Option.some.inj hf
    exact m_iret S hR hS rfl dX4_isTold_172
set_option maxHeartbeats 4000000 in
set_option maxRecDepth 100000 in
theorem wBX4_isTold {d : Nat} {rec : Int32 → Int32 → Int32 → Int32 → mS → Option (Int32 × mS)} {l : Launch} {G : mG} {x1 : Int32} {x2 : Int32} {x3 : Int32} {x4 : Int32} {σ : mS} {res : Int32 × mS} (hrec : ∀ {x1 : Int32} {x2 : Int32} {x3 : Int32} {x4 : Int32} {σ : mS} {res : Int32 × mS}, rec x1 x2 x3 x4 σ = some res → mMet l yX4_isTold cX4_isTold 8 (Option.some Jvm.ClassFile.FieldType.boolean) (mRm (d + 19) (27 * (d) + 435)) G [.ref (mo G), .int x1, .int x2, .int x3, .int x4] σ (some (.int res.1)) res.2) (hf : BX4_isTold rec x1 x2 x3 x4 σ = some res) : mMet l yX4_isTold cX4_isTold 8 (Option.some Jvm.ClassFile.FieldType.boolean) (mRm (d + 1 + 19) (27 * (d + 1) + 435)) G [.ref (mo G), .int x1, .int x2, .int x3, .int x4] σ (some (.int res.1)) res.2 := by
  replace hf : ((mald σ 44 x1).bind (fun v1 => if (σ.1 22) < v1 then (mald σ 45 (((60 : Int32) * x1) + (σ.1 22))).bind (fun v2 => if v2 = (-1 : Int32) then (fX4_leastHalves x2 σ).bind (fun e11 => if ((2 : Int32) * x3) < e11.1 then JX4_isTold_81 rec x1 x2 x3 x4 v2 e11.2 else some ((0 : Int32), e11.2)) else if (fX4_isPoint v2 σ) = (0 : Int32) then some ((0 : Int32), σ) else if (fX4_has x2 v2) = (0 : Int32) then some ((0 : Int32), σ) else (fX4_degree v2 x2 σ).bind (fun v3 => if v3 = (0 : Int32) then some ((0 : Int32), σ) else JX4_isTold_81 rec x1 x2 x3 x4 v2 σ)) else some ((0 : Int32), σ))) = some res := hf
  refine m_start (by decide) rfl (Nat.le_of_ble_eq_true rfl) ?_
  intro p e s m args below meth c S hR hS ls hl
  obtain ⟨hx, hb, hml, hown, hts⟩ := S.1.1
  have hl : lv_has ls 8 [(0, .ref (mo G)), (1, .int x1), (2, .int x2), (3, .int x3), (4, .int x4)] := hl
  refine lv_aload_n hx hb dX4_isTold_0 rfl (lv_at hl 0 rfl) ?_
  refine m_geti (k := 22) S hR (by decide) (by decide) q2548 dX4_isTold_1 ?_
  refine lv_aload_n hx hb dX4_isTold_4 rfl (lv_at hl 0 rfl) ?_
  refine m_geta (k := 44) S hR (by decide) (by decide) q2570 dX4_isTold_5 ?_
  refine lv_iload_n hx hb dX4_isTold_8 rfl (lv_at hl 1 rfl) ?_
  refine k_bind hf (fun v1 hv1 hf => ?_)
  refine m_iald S hR hv1 dX4_isTold_9 ?_
  refine lv_icmp_lt (tgt := 15) hx hb dX4_isTold_10 (by decide) (fun c_10 => ?_) (fun c_10 => ?_)
  · replace hf := o_t hf c_10
    refine lv_aload_n hx hb dX4_isTold_15 rfl (lv_at hl 0 rfl) ?_
    refine m_geta (k := 45) S hR (by decide) (by decide) q2571 dX4_isTold_16 ?_
    refine lv_bipush (v := 60) hx hb dX4_isTold_19 (by decide) ?_
    refine lv_iload_n hx hb dX4_isTold_21 rfl (lv_at hl 1 rfl) ?_
    refine lv_imul hx hb dX4_isTold_22 ?_
    refine lv_aload_n hx hb dX4_isTold_23 rfl (lv_at hl 0 rfl) ?_
    refine m_geti (k := 22) S hR (by decide) (by decide) q2548 dX4_isTold_24 ?_
    refine lv_iadd hx hb dX4_isTold_27 ?_
    refine k_bind hf (fun v2 hv2 hf => ?_)
    refine m_iald S hR hv2 dX4_isTold_28 ?_
    refine lv_istore (lv' := [(5, .int v2), (0, .ref (mo G)), (1, .int x1), (2, .int x2), (3, .int x3), (4, .int x4)]) hx hb dX4_isTold_29 hl (by decide) rfl (fun ls hl => ?_)
    refine lv_iload hx hb dX4_isTold_31 (lv_at hl 0 rfl) ?_
    refine lv_iconst (v := -1) hx hb dX4_isTold_33 (by decide) ?_
    refine lv_icmp_ne (tgt := 51) hx hb dX4_isTold_34 (by decide) (fun c_34 => ?_) (fun c_34 => ?_)
    · replace hf := o_f hf c_34
      refine lv_aload_n hx hb dX4_isTold_51 rfl (lv_at hl 1 rfl) ?_
      refine lv_iload hx hb dX4_isTold_52 (lv_at hl 0 rfl) ?_
      refine m_call (As := [.int v2]) (rest := []) S hR hS (met_X4_isPoint rfl) wi_X4_isPoint rfl q2696 ⟨rfl, rfl⟩ ⟨by simp only [mRm]; omega, by simp only [mRm]; omega⟩ rfl hl.1 rfl (Nat.le_of_ble_eq_true rfl) dX4_isTold_54 (fun H locs hR hS => ?_)
      refine lv_if_eq (tgt := 79) hx hb dX4_isTold_57 (by decide) (fun c_57 => ?_) (fun c_57 => ?_)
      · replace hf := o_t hf c_57
        refine lv_iconst (v := 0) hx hb dX4_isTold_79 (by decide) ?_
        obtain rfl := Option.some.inj hf
        exact m_iret S hR hS rfl dX4_isTold_80
      · replace hf := o_f hf c_57
        refine lv_iload_n hx hb dX4_isTold_60 rfl (lv_at hl 3 rfl) ?_
        refine lv_iload hx hb dX4_isTold_61 (lv_at hl 0 rfl) ?_
        refine s_call (As := [.int x2, .int v2]) (rest := []) S.1.1 (met_X4_has rfl) wi_X4_has q2750 ⟨rfl, rfl⟩ ⟨by simp only [mRm]; omega, by simp only [mRm]; omega⟩ rfl hl.1 rfl (Nat.le_of_ble_eq_true rfl) dX4_isTold_63 ⟨Nat.zero_le _, Nat.zero_le _⟩ ?_
        refine lv_if_eq (tgt := 79) hx hb dX4_isTold_66 (by decide) (fun c_66 => ?_) (fun c_66 => ?_)
        · replace hf := o_t hf c_66
          refine lv_iconst (v := 0) hx hb dX4_isTold_79 (by decide) ?_
          obtain rfl := Option.some.inj hf
          exact m_iret S hR hS rfl dX4_isTold_80
        · replace hf := o_f hf c_66
          refine lv_aload_n hx hb dX4_isTold_69 rfl (lv_at hl 1 rfl) ?_
          refine lv_iload hx hb dX4_isTold_70 (lv_at hl 0 rfl) ?_
          refine lv_iload_n hx hb dX4_isTold_72 rfl (lv_at hl 3 rfl) ?_
          refine k_bind hf (fun v3 hv3 hf => ?_)
          refine m_call (As := [.int v2, .int x2]) (rest := []) S hR hS (met_X4_degree hv3) wi_X4_degree rfl q2869 ⟨rfl, rfl⟩ ⟨by simp only [mRm]; omega, by simp only [mRm]; omega⟩ rfl hl.1 rfl (Nat.le_of_ble_eq_true rfl) dX4_isTold_73 (fun H locs hR hS => ?_)
          refine lv_if_ne (tgt := 81) hx hb dX4_isTold_76 (by decide) (fun c_76 => ?_) (fun c_76 => ?_)
          · replace hf := o_f hf c_76
            exact wJX4_isTold_81 S hrec hf _ _ _ hR hS (lv_sub (l' := [(0, .ref (mo G)), (1, .int x1), (2, .int x2), (3, .int x3), (4, .int x4), (5, .int v2)]) hl [1, 2, 3, 4, 5, 0] rfl)
          · replace hf := o_t hf c_76
            refine lv_iconst (v := 0) hx hb dX4_isTold_79 (by decide) ?_
            obtain rfl := Option.some.inj hf
            exact m_iret S hR hS rfl dX4_isTold_80
    · replace hf := o_t hf c_34
      refine lv_aload_n hx hb dX4_isTold_37 rfl (lv_at hl 1 rfl) ?_
      refine lv_iload_n hx hb dX4_isTold_38 rfl (lv_at hl 3 rfl) ?_
      refine k_bind hf (fun e11 he11 hf => ?_)
      refine m_call (As := [.int x2]) (rest := []) S hR hS (met_X4_leastHalves he11) wi_X4_leastHalves rfl q2798 ⟨rfl, rfl⟩ ⟨by simp only [mRm]; omega, by simp only [mRm]; omega⟩ rfl hl.1 rfl (Nat.le_of_ble_eq_true rfl) dX4_isTold_39 (fun H locs hR hS => ?_)
      refine lv_iconst (v := 2) hx hb dX4_isTold_42 (by decide) ?_
      refine lv_iload_n hx hb dX4_isTold_43 rfl (lv_at hl 4 rfl) ?_
      refine lv_imul hx hb dX4_isTold_44 ?_
      refine lv_icmp_gt (tgt := 81) hx hb dX4_isTold_45 (by decide) (fun c_45 => ?_) (fun c_45 => ?_)
      · replace hf := o_t hf c_45
        exact wJX4_isTold_81 S hrec hf _ _ _ hR hS (lv_sub (l' := [(0, .ref (mo G)), (1, .int x1), (2, .int x2), (3, .int x3), (4, .int x4), (5, .int v2)]) hl [1, 2, 3, 4, 5, 0] rfl)
      · replace hf := o_f hf c_45
        refine lv_goto (tgt := 79) hx hb dX4_isTold_48 (by decide) ?_
        refine lv_iconst (v := 0) hx hb dX4_isTold_79 (by decide) ?_
        obtain rfl := Option.some.inj hf
        exact m_iret S hR hS rfl dX4_isTold_80
  · replace hf := o_f hf c_10
    refine lv_iconst (v := 0) hx hb dX4_isTold_13 (by decide) ?_
    obtain rfl := Option.some.inj hf
    exact m_iret S hR hS rfl dX4_isTold_14
set_option maxHeartbeats 4000000 in
set_option maxRecDepth 100000 in
theorem met_X4_isTold {l : Launch} {G : mG} : ∀ {d : Nat} {x1 : Int32} {x2 : Int32} {x3 : Int32} {x4 : Int32} {σ : mS} {res : Int32 × mS}, fX4_isTold d x1 x2 x3 x4 σ = some res → mMet l yX4_isTold cX4_isTold 8 (Option.some Jvm.ClassFile.FieldType.boolean) (mRm (d + 19) (27 * (d) + 435)) G [.ref (mo G), .int x1, .int x2, .int x3, .int x4] σ (some (.int res.1)) res.2 := by
  intro d
  induction d with
  | zero => intro  x1 x2 x3 x4 σ res hf; cases hf
  | succ d ih => intro  x1 x2 x3 x4 σ res hf; exact wBX4_isTold (fun h => ih h) hf

noncomputable def fX4_proves (x1 : Int32) (x2 : Int32) (σ : mS) : Option (Int32 × mS) :=
  if (fX4_isSheet x1) = (0 : Int32) then some ((-2 : Int32), σ) else if (fX4_in x2 (0 : Int32) (12 : Int32)) = (0 : Int32) then some ((-2 : Int32), σ) else (mald σ 43 x1).bind (fun v1 => if v1 = (-1 : Int32) then some ((-11 : Int32), σ) else (mput σ 22 (0 : Int32)).bind (fun σ2 => (fX4_isTold 16 x1 (fX4_all σ2) x2 (0 : Int32) σ2).bind (fun e3 => if e3.1 = (0 : Int32) then some (((1 : Int32) + (e3.2.1 22)), e3.2) else (mald e3.2 44 x1).bind (fun v4 => if (e3.2.1 22) = v4 then some ((0 : Int32), e3.2) else some (((1 : Int32) + (e3.2.1 22)), e3.2)))))
theorem wi_X4_proves : wInfV yX4_proves cX4_proves 3 (Option.some Jvm.ClassFile.FieldType.int) 2 := ⟨q2925, q2926, q116, q2927, (by decide +kernel), (by decide +kernel), (by decide +kernel)⟩
set_option maxHeartbeats 4000000 in
set_option maxRecDepth 100000 in
theorem met_X4_proves {l : Launch} {G : mG} {x1 : Int32} {x2 : Int32} {σ : mS} {res : Int32 × mS} (hf : fX4_proves x1 x2 σ = some res) : mMet l yX4_proves cX4_proves 3 (Option.some Jvm.ClassFile.FieldType.int) (mRm 36 894) G [.ref (mo G), .int x1, .int x2] σ (some (.int res.1)) res.2 := by
  replace hf : (if (fX4_isSheet x1) = (0 : Int32) then some ((-2 : Int32), σ) else if (fX4_in x2 (0 : Int32) (12 : Int32)) = (0 : Int32) then some ((-2 : Int32), σ) else (mald σ 43 x1).bind (fun v1 => if v1 = (-1 : Int32) then some ((-11 : Int32), σ) else (mput σ 22 (0 : Int32)).bind (fun σ2 => (fX4_isTold 16 x1 (fX4_all σ2) x2 (0 : Int32) σ2).bind (fun e3 => if e3.1 = (0 : Int32) then some (((1 : Int32) + (e3.2.1 22)), e3.2) else (mald e3.2 44 x1).bind (fun v4 => if (e3.2.1 22) = v4 then some ((0 : Int32), e3.2) else some (((1 : Int32) + (e3.2.1 22)), e3.2)))))) = some res := hf
  refine m_start (by decide) rfl (Nat.le_of_ble_eq_true rfl) ?_
  intro p e s m args below meth c S hR hS ls hl
  obtain ⟨hx, hb, hml, hown, hts⟩ := S.1.1
  have hl : lv_has ls 3 [(0, .ref (mo G)), (1, .int x1), (2, .int x2)] := hl
  refine lv_iload_n hx hb dX4_proves_0 rfl (lv_at hl 1 rfl) ?_
  refine s_call (As := [.int x1]) (rest := []) S.1.1 (met_X4_isSheet rfl) wi_X4_isSheet q2893 ⟨rfl, rfl⟩ ⟨Nat.le_of_ble_eq_true rfl, Nat.le_of_ble_eq_true rfl⟩ rfl hl.1 rfl (Nat.le_of_ble_eq_true rfl) dX4_proves_1 ⟨Nat.zero_le _, Nat.zero_le _⟩ ?_
  refine lv_if_eq (tgt := 17) hx hb dX4_proves_4 (by decide) (fun c_4 => ?_) (fun c_4 => ?_)
  · replace hf := o_t hf c_4
    refine lv_bipush (v := -2) hx hb dX4_proves_17 (by decide) ?_
    obtain rfl := Option.some.inj hf
    exact m_iret S hR hS rfl dX4_proves_19
  · replace hf := o_f hf c_4
    refine lv_iload_n hx hb dX4_proves_7 rfl (lv_at hl 2 rfl) ?_
    refine lv_iconst (v := 0) hx hb dX4_proves_8 (by decide) ?_
    refine lv_bipush (v := 12) hx hb dX4_proves_9 (by decide) ?_
    refine s_call (As := [.int x2, .int (0 : Int32), .int (12 : Int32)]) (rest := []) S.1.1 (met_X4_in rfl) wi_X4_in q2681 ⟨rfl, rfl⟩ ⟨Nat.le_of_ble_eq_true rfl, Nat.le_of_ble_eq_true rfl⟩ rfl hl.1 rfl (Nat.le_of_ble_eq_true rfl) dX4_proves_11 ⟨Nat.zero_le _, Nat.zero_le _⟩ ?_
    refine lv_if_ne (tgt := 20) hx hb dX4_proves_14 (by decide) (fun c_14 => ?_) (fun c_14 => ?_)
    · replace hf := o_f hf c_14
      refine lv_aload_n hx hb dX4_proves_20 rfl (lv_at hl 0 rfl) ?_
      refine m_geta (k := 43) S hR (by decide) (by decide) q2569 dX4_proves_21 ?_
      refine lv_iload_n hx hb dX4_proves_24 rfl (lv_at hl 1 rfl) ?_
      refine k_bind hf (fun v1 hv1 hf => ?_)
      refine m_iald S hR hv1 dX4_proves_25 ?_
      refine lv_iconst (v := -1) hx hb dX4_proves_26 (by decide) ?_
      refine lv_icmp_ne (tgt := 33) hx hb dX4_proves_27 (by decide) (fun c_27 => ?_) (fun c_27 => ?_)
      · replace hf := o_f hf c_27
        refine lv_aload_n hx hb dX4_proves_33 rfl (lv_at hl 0 rfl) ?_
        refine lv_iconst (v := 0) hx hb dX4_proves_34 (by decide) ?_
        refine k_bind hf (fun σ2 hσ2 hf => ?_)
        refine m_puti (k := 22) S hR hS hσ2 (by decide) (by decide) rfl rfl rfl rfl q2548 dX4_proves_35 (fun H locs hR hS => ?_)
        refine lv_aload_n hx hb dX4_proves_38 rfl (lv_at hl 0 rfl) ?_
        refine lv_iload_n hx hb dX4_proves_39 rfl (lv_at hl 1 rfl) ?_
        refine lv_aload_n hx hb dX4_proves_40 rfl (lv_at hl 0 rfl) ?_
        refine m_call (As := []) (rest := [.int x1, .ref (mo G)]) S hR hS (met_X4_all rfl) wi_X4_all rfl q2738 ⟨rfl, rfl⟩ ⟨Nat.le_of_ble_eq_true rfl, Nat.le_of_ble_eq_true rfl⟩ rfl hl.1 rfl (Nat.le_of_ble_eq_true rfl) dX4_proves_41 (fun H locs hR hS => ?_)
        refine lv_iload_n hx hb dX4_proves_44 rfl (lv_at hl 2 rfl) ?_
        refine lv_iconst (v := 0) hx hb dX4_proves_45 (by decide) ?_
        refine k_bind hf (fun e3 he3 hf => ?_)
        refine m_call (As := [.int x1, .int (fX4_all σ2), .int x2, .int (0 : Int32)]) (rest := []) S hR hS (met_X4_isTold he3) wi_X4_isTold rfl q2928 ⟨rfl, rfl⟩ ⟨Nat.le_of_ble_eq_true rfl, Nat.le_of_ble_eq_true rfl⟩ rfl hl.1 rfl (Nat.le_of_ble_eq_true rfl) dX4_proves_46 (fun H locs hR hS => ?_)
        refine lv_if_eq (tgt := 69) hx hb dX4_proves_49 (by decide) (fun c_49 => ?_) (fun c_49 => ?_)
        · replace hf := o_t hf c_49
          refine lv_iconst (v := 1) hx hb dX4_proves_69 (by decide) ?_
          refine lv_aload_n hx hb dX4_proves_70 rfl (lv_at hl 0 rfl) ?_
          refine m_geti (k := 22) S hR (by decide) (by decide) q2548 dX4_proves_71 ?_
          refine lv_iadd hx hb dX4_proves_74 ?_
          obtain rfl := Option.some.inj hf
          exact m_iret S hR hS rfl dX4_proves_75
        · replace hf := o_f hf c_49
          refine lv_aload_n hx hb dX4_proves_52 rfl (lv_at hl 0 rfl) ?_
          refine m_geti (k := 22) S hR (by decide) (by decide) q2548 dX4_proves_53 ?_
          refine lv_aload_n hx hb dX4_proves_56 rfl (lv_at hl 0 rfl) ?_
          refine m_geta (k := 44) S hR (by decide) (by decide) q2570 dX4_proves_57 ?_
          refine lv_iload_n hx hb dX4_proves_60 rfl (lv_at hl 1 rfl) ?_
          refine k_bind hf (fun v4 hv4 hf => ?_)
          refine m_iald S hR hv4 dX4_proves_61 ?_
          refine lv_icmp_ne (tgt := 69) hx hb dX4_proves_62 (by decide) (fun c_62 => ?_) (fun c_62 => ?_)
          · replace hf := o_f hf c_62
            refine lv_iconst (v := 1) hx hb dX4_proves_69 (by decide) ?_
            refine lv_aload_n hx hb dX4_proves_70 rfl (lv_at hl 0 rfl) ?_
            refine m_geti (k := 22) S hR (by decide) (by decide) q2548 dX4_proves_71 ?_
            refine lv_iadd hx hb dX4_proves_74 ?_
            obtain rfl := Option.some.inj hf
            exact m_iret S hR hS rfl dX4_proves_75
          · replace hf := o_t hf c_62
            refine lv_iconst (v := 0) hx hb dX4_proves_65 (by decide) ?_
            refine lv_goto (tgt := 75) hx hb dX4_proves_66 (by decide) ?_
            obtain rfl := Option.some.inj hf
            exact m_iret S hR hS rfl dX4_proves_75
      · replace hf := o_t hf c_27
        refine lv_bipush (v := -11) hx hb dX4_proves_30 (by decide) ?_
        obtain rfl := Option.some.inj hf
        exact m_iret S hR hS rfl dX4_proves_32
    · replace hf := o_t hf c_14
      refine lv_bipush (v := -2) hx hb dX4_proves_17 (by decide) ?_
      obtain rfl := Option.some.inj hf
      exact m_iret S hR hS rfl dX4_proves_19
