/-! the reference's numbers with points: to bits, from bits -/
set_option maxRecDepth 100000
theorem single_top {b : Int32} (h1 : b.toUInt32.toNat / 2 ^ 23 % 256 = 255) : (b.toUInt32.toNat % 2 ^ 23 ≠ 0 → (2143289344 : UInt32) = m_single b) ∧ (b.toUInt32.toNat % 2 ^ 23 = 0 → (b < 0 → (4286578688 : UInt32) = m_single b) ∧ (¬ b < 0 → (2139095040 : UInt32) = m_single b)) := by
  have hb := b.toUInt32.toNat_lt
  constructor
  · intro h
    unfold m_single
    rw [if_pos (by omega)]
  · intro h
    have e : m_single b = b.toUInt32 := by unfold m_single; rw [if_neg (by omega)]
    rw [e]
    constructor
    · intro h2
      have := i32_neg.mp h2
      apply UInt32.toNat_inj.mp
      show 4286578688 = _
      omega
    · intro h2
      have : ¬ 2 ^ 31 ≤ b.toUInt32.toNat := fun q => h2 (i32_neg.mpr q)
      apply UInt32.toNat_inj.mp
      show 2139095040 = _
      omega
theorem single_dy {b : Int32} {w : UInt32} {s : Bool} (h1 : b.toUInt32.toNat / 2 ^ 23 % 256 ≠ 255) (hs : s = decide (2 ^ 31 ≤ b.toUInt32.toNat)) (hw : (b.toUInt32.toNat / 2 ^ 23 % 256 = 0 ∧ Dy32 w s (b.toUInt32.toNat % 2 ^ 23) (-149)) ∨ (b.toUInt32.toNat / 2 ^ 23 % 256 ≠ 0 ∧ Dy32 w s (2 ^ 23 + b.toUInt32.toNat % 2 ^ 23) (((b.toUInt32.toNat / 2 ^ 23 % 256 : Nat) : Int) - 150))) : w = m_single b := by
  have hb := b.toUInt32.toNat_lt
  have e : m_single b = b.toUInt32 := by unfold m_single; rw [if_neg (by omega)]
  rw [e]
  subst hs
  rcases hw with ⟨h, hd⟩ | ⟨h, hd⟩
  · exact dy_uniq32 hd ⟨_, _, fV_sub32 h, rfl⟩
  · exact dy_uniq32 hd ⟨_, _, fV_norm32 h h1, rfl⟩
theorem single_fin {b : Int32} {v : UInt64} (h1 : b.toUInt32.toNat / 2 ^ 23 % 256 ≠ 255) (hv : (b.toUInt32.toNat / 2 ^ 23 % 256 = 0 ∧ Dy64 v false (b.toUInt32.toNat % 2 ^ 23) (-149)) ∨ (b.toUInt32.toNat / 2 ^ 23 % 256 ≠ 0 ∧ Dy64 v false (2 ^ 23 + b.toUInt32.toNat % 2 ^ 23) (((b.toUInt32.toNat / 2 ^ 23 % 256 : Nat) : Int) - 150))) : (∀ w, (w = v ∨ w = FP.dneg v) → vf_n32 (FP.d2f w)) ∧ (b < 0 → FP.d2f (FP.dneg v) = m_single b) ∧ (¬ b < 0 → FP.d2f v = m_single b) := by
  have hb := b.toUInt32.toNat_lt
  refine ⟨fun w hw => ?_, fun h => ?_, fun h => ?_⟩
  · have hn : FV64 v ≠ .nan := by
      rcases hv with ⟨-, h⟩ | ⟨-, h⟩
      · exact dy_nan64 h
      · exact dy_nan64 h
    rcases hw with rfl | rfl
    · exact vf_of32 (d2f_nn hn)
    · exact vf_of32 (d2f_nn (nn_neg64 hn))
  · have g := i32_neg.mp h
    refine single_dy h1 (s := true) (decide_eq_true g).symm ?_
    rcases hv with ⟨h, hd⟩ | ⟨h, hd⟩
    · exact Or.inl ⟨h, d2f_dy (dy_neg64 hd) (by omega) (by omega) (by omega) (by omega) rfl⟩
    · exact Or.inr ⟨h, d2f_dy (dy_neg64 hd) (by omega) (by omega) (by omega) (by omega) rfl⟩
  · have g : ¬ 2 ^ 31 ≤ b.toUInt32.toNat := fun q => h (i32_neg.mpr q)
    refine single_dy h1 (s := false) (decide_eq_false g).symm ?_
    rcases hv with ⟨h, hd⟩ | ⟨h, hd⟩
    · exact Or.inl ⟨h, d2f_dy hd (by omega) (by omega) (by omega) (by omega) rfl⟩
    · exact Or.inr ⟨h, d2f_dy hd (by omega) (by omega) (by omega) (by omega) rfl⟩
set_option maxHeartbeats 4000000 in
theorem met_X3_single (l : Launch) (b : Int32) : PF l yX3_single cX3_single 5 (some .float) 2 [.int b] (.float (m_single b)) := by
  refine pf_of (by decide) (Nat.le_of_ble_eq_true rfl) ?_
  intro p e s m args below meth c ls hx hb hr hts hown hlk hml hl
  have hl : lv_has ls 5 [(0, .int b)] := hl
  refine lv_iload_n hx hb dX3_single_0 rfl (lv_at hl 0 rfl) ?_
  refine lv_bipush (v := 23) hx hb dX3_single_1 (by decide) ?_
  refine lv_iushr hx hb dX3_single_3 rfl ?_
  refine lv_topi (fun v3 e3 => ?_)
  refine lv_sipush (v := 255) hx hb dX3_single_4 (by decide) ?_
  refine lv_iand hx hb dX3_single_7 ?_
  refine lv_topi (fun v7 e7 => ?_)
  refine lv_istore_n (lv' := [(1, .int v7), (0, .int b)]) hx hb dX3_single_8 rfl hl (by decide) rfl (fun ls hl => ?_)
  refine lv_iload_n hx hb dX3_single_9 rfl (lv_at hl 1 rfl) ?_
  refine lv_ldc (v := 8388607) hx hb hown (hts _ q1043) dX3_single_10 ?_
  refine lv_iand hx hb dX3_single_12 ?_
  refine lv_topi (fun v12 e12 => ?_)
  have hE := lv_u23 b
  rw [← e3, ← e7] at hE
  have hM := lv_a23 b
  rw [← e12] at hM
  refine lv_istore_n (lv' := [(2, .int v12), (1, .int v7), (0, .int b)]) hx hb dX3_single_13 rfl hl (by decide) rfl (fun ls hl => ?_)
  refine lv_iload_n hx hb dX3_single_14 rfl (lv_at hl 1 rfl) ?_
  refine lv_sipush (v := 255) hx hb dX3_single_15 (by decide) ?_
  refine lv_icmp_ne (tgt := 42) hx hb dX3_single_18 (by decide) (fun c18 => ?_) (fun c18 => ?_)
  · refine lv_iload_n hx hb dX3_single_42 rfl (lv_at hl 1 rfl) ?_
    refine lv_if_ne (tgt := 57) hx hb dX3_single_43 (by decide) (fun c43 => ?_) (fun c43 => ?_)
    · refine lv_iload_n hx hb dX3_single_57 rfl (lv_at hl 0 rfl) ?_
      refine lv_ldc (v := 8388608) hx hb hown (hts _ q1070) dX3_single_58 ?_
      refine lv_ior hx hb dX3_single_60 ?_
      refine lv_topi (fun v60 e60 => ?_)
      refine lv_i2l hx hb dX3_single_61 rfl ?_
      refine lv_topl (fun v61 e61 => ?_)
      have hO := lv_o23 b
      rw [← e12, ← e60] at hO
      have h61 : v61.toInt = ((2 ^ 23 + b.toUInt32.toNat % 2 ^ 23 : Nat) : Int) := by rw [e61, Int32.toInt_toInt64, hO]
      refine lv_iload_n hx hb dX3_single_62 rfl (lv_at hl 1 rfl) ?_
      refine lv_sipush (v := 150) hx hb dX3_single_63 (by decide) ?_
      refine lv_isub hx hb dX3_single_66 ?_
      refine lv_topi (fun v66 e66 => ?_)
      have hT0 : b.toUInt32.toNat / 2 ^ 23 % 256 ≠ 255 := fun q => c18 (Int32.toInt_inj.mp (by rw [hE, q]; rfl))
      have hZ0 : b.toUInt32.toNat / 2 ^ 23 % 256 ≠ 0 := fun q => c43 (Int32.toInt_inj.mp (by rw [hE, q]; rfl))
      have hW : v66.toInt = ((b.toUInt32.toNat / 2 ^ 23 % 256 : Nat) : Int) - 150 := by rw [e66, Int32.toInt_sub, hE, show (150 : Int32).toInt = 150 from rfl, Int.bmod_eq_of_le (by omega) (by omega)]
      refine pf_S 2 hx hb hml hown hts (As := [.long v61, .int v66]) (met_X3_moved l v61 v66 (by rw [h61]; omega) (by rw [h61]; omega) (by rw [hW]; omega) (by rw [hW]; omega)) (lw_S q1067 q1068 q28 q1069) (by decide +kernel) rfl ⟨Nat.le_of_ble_eq_true rfl, Nat.le_of_ble_eq_true rfl⟩ hl.1 rfl (Nat.le_of_ble_eq_true rfl) dX3_single_67 ⟨Nat.le_of_ble_eq_true rfl, Nat.le_of_ble_eq_true rfl⟩ ?_
      refine lv_topd (fun v67 e67 => ?_)
      have hT : b.toUInt32.toNat / 2 ^ 23 % 256 ≠ 255 := fun q => c18 (Int32.toInt_inj.mp (by rw [hE, q]; rfl))
      have hz : b.toUInt32.toNat / 2 ^ 23 % 256 ≠ 0 := fun q => c43 (Int32.toInt_inj.mp (by rw [hE, q]; rfl))
      have hv : Dy64 v67 false (2 ^ 23 + b.toUInt32.toNat % 2 ^ 23) (((b.toUInt32.toNat / 2 ^ 23 % 256 : Nat) : Int) - 150) := by rw [e67, h61, hW]; exact mv_dy (by omega) (by omega) (by omega)
      have hs := single_fin (v := v67) hT (Or.inr ⟨hz, hv⟩)
      refine lv_dstore_n (lv' := [(3, .double v67), (2, .int v12), (1, .int v7), (0, .int b)]) hx hb dX3_single_70 rfl hl (by decide) rfl (fun ls hl => ?_)
      refine lv_iload_n hx hb dX3_single_71 rfl (lv_at hl 3 rfl) ?_
      refine lv_if_ge (tgt := 80) hx hb dX3_single_72 (by decide) (fun c72 => ?_) (fun c72 => ?_)
      · refine lv_dload_n hx hb dX3_single_80 rfl (lv_at hl 0 rfl) ?_
        refine lv_d2f hx hb dX3_single_81 (by exact hs.1 _ (by exact Or.inl rfl)) ?_
        refine lv_topf (fun v81 e81 => ?_)
        exact pf_fret hx hb hr hlk dX3_single_82 (by rw [e81]; exact hs.2.2 (fun q => absurd (i0_ge c72) (by have := i0_lt q; omega)))
      · refine lv_dload_n hx hb dX3_single_75 rfl (lv_at hl 0 rfl) ?_
        refine lv_dneg hx hb dX3_single_76 ?_
        refine lv_topd (fun v76 e76 => ?_)
        refine lv_goto (tgt := 81) hx hb dX3_single_77 (by decide) ?_
        refine lv_d2f hx hb dX3_single_81 (by rw [e76]; exact hs.1 _ (by exact Or.inr rfl)) ?_
        refine lv_topf (fun v81 e81 => ?_)
        exact pf_fret hx hb hr hlk dX3_single_82 (by rw [e81, e76]; exact hs.2.1 (Int32.lt_iff_toInt_lt.mpr (i0_nge c72)))
    · refine lv_iload_n hx hb dX3_single_46 rfl (lv_at hl 0 rfl) ?_
      refine lv_i2l hx hb dX3_single_47 rfl ?_
      refine lv_topl (fun v47 e47 => ?_)
      have h47 : v47.toInt = ((b.toUInt32.toNat % 2 ^ 23 : Nat) : Int) := by rw [e47, Int32.toInt_toInt64, hM]
      refine lv_sipush (v := -149) hx hb dX3_single_48 (by decide) ?_
      refine pf_S 2 hx hb hml hown hts (As := [.long v47, .int (-149)]) (met_X3_moved l v47 (-149) (by rw [h47]; omega) (by rw [h47]; omega) (by decide) (by decide)) (lw_S q1067 q1068 q28 q1069) (by decide +kernel) rfl ⟨Nat.le_of_ble_eq_true rfl, Nat.le_of_ble_eq_true rfl⟩ hl.1 rfl (Nat.le_of_ble_eq_true rfl) dX3_single_51 ⟨Nat.le_of_ble_eq_true rfl, Nat.le_of_ble_eq_true rfl⟩ ?_
      refine lv_topd (fun v51 e51 => ?_)
      refine lv_goto (tgt := 70) hx hb dX3_single_54 (by decide) ?_
      have hT : b.toUInt32.toNat / 2 ^ 23 % 256 ≠ 255 := fun q => c18 (Int32.toInt_inj.mp (by rw [hE, q]; rfl))
      have hz : b.toUInt32.toNat / 2 ^ 23 % 256 = 0 := by rw [c43] at hE; have h9 : (0 : Int32).toInt = 0 := rfl; omega
      have hv : Dy64 v51 false (b.toUInt32.toNat % 2 ^ 23) (-149) := by rw [e51, h47]; exact mv_dy (by omega) (by decide) (by decide)
      have hs := single_fin (v := v51) hT (Or.inl ⟨hz, hv⟩)
      refine lv_dstore_n (lv' := [(3, .double v51), (2, .int v12), (1, .int v7), (0, .int b)]) hx hb dX3_single_70 rfl hl (by decide) rfl (fun ls hl => ?_)
      refine lv_iload_n hx hb dX3_single_71 rfl (lv_at hl 3 rfl) ?_
      refine lv_if_ge (tgt := 80) hx hb dX3_single_72 (by decide) (fun c72 => ?_) (fun c72 => ?_)
      · refine lv_dload_n hx hb dX3_single_80 rfl (lv_at hl 0 rfl) ?_
        refine lv_d2f hx hb dX3_single_81 (by exact hs.1 _ (by exact Or.inl rfl)) ?_
        refine lv_topf (fun v81 e81 => ?_)
        exact pf_fret hx hb hr hlk dX3_single_82 (by rw [e81]; exact hs.2.2 (fun q => absurd (i0_ge c72) (by have := i0_lt q; omega)))
      · refine lv_dload_n hx hb dX3_single_75 rfl (lv_at hl 0 rfl) ?_
        refine lv_dneg hx hb dX3_single_76 ?_
        refine lv_topd (fun v76 e76 => ?_)
        refine lv_goto (tgt := 81) hx hb dX3_single_77 (by decide) ?_
        refine lv_d2f hx hb dX3_single_81 (by rw [e76]; exact hs.1 _ (by exact Or.inr rfl)) ?_
        refine lv_topf (fun v81 e81 => ?_)
        exact pf_fret hx hb hr hlk dX3_single_82 (by rw [e81, e76]; exact hs.2.1 (Int32.lt_iff_toInt_lt.mpr (i0_nge c72)))
  · refine lv_iload_n hx hb dX3_single_21 rfl (lv_at hl 0 rfl) ?_
    refine lv_if_eq (tgt := 30) hx hb dX3_single_22 (by decide) (fun c22 => ?_) (fun c22 => ?_)
    · refine lv_iload_n hx hb dX3_single_30 rfl (lv_at hl 2 rfl) ?_
      refine lv_if_ge (tgt := 39) hx hb dX3_single_31 (by decide) (fun c31 => ?_) (fun c31 => ?_)
      · refine lv_ldcf (v := 2139095040) hx hb hown (hts _ q1066) dX3_single_39 ?_
        exact pf_fret hx hb hr hlk dX3_single_41 (by have hT : b.toUInt32.toNat / 2 ^ 23 % 256 = 255 := (by rw [c18] at hE; have h9 : (255 : Int32).toInt = 255 := rfl; omega); have hz : b.toUInt32.toNat % 2 ^ 23 = 0 := (by rw [c22] at hM; have h9 : (0 : Int32).toInt = 0 := rfl; omega); exact ((single_top hT).2 hz).2 (fun q => absurd (i0_ge c31) (by have := i0_lt q; omega)))
      · refine lv_ldcf (v := 4286578688) hx hb hown (hts _ q1065) dX3_single_34 ?_
        refine lv_goto (tgt := 41) hx hb dX3_single_36 (by decide) ?_
        exact pf_fret hx hb hr hlk dX3_single_41 (by have hT : b.toUInt32.toNat / 2 ^ 23 % 256 = 255 := (by rw [c18] at hE; have h9 : (255 : Int32).toInt = 255 := rfl; omega); have hz : b.toUInt32.toNat % 2 ^ 23 = 0 := (by rw [c22] at hM; have h9 : (0 : Int32).toInt = 0 := rfl; omega); exact ((single_top hT).2 hz).1 (Int32.lt_iff_toInt_lt.mpr (i0_nge c31)))
    · refine lv_ldcf (v := 2143289344) hx hb hown (hts _ q1064) dX3_single_25 ?_
      refine lv_goto (tgt := 41) hx hb dX3_single_27 (by decide) ?_
      exact pf_fret hx hb hr hlk dX3_single_41 (by have hT : b.toUInt32.toNat / 2 ^ 23 % 256 = 255 := (by rw [c18] at hE; have h9 : (255 : Int32).toInt = 255 := rfl; omega); exact (single_top hT).1 (fun q => c22 (Int32.toInt_inj.mp (by rw [hM, q]; rfl))))
set_option maxHeartbeats 4000000 in
theorem met_X3_isBelow (l : Launch) (v : UInt64) (h : FV64 v ≠ .nan) : PF l yX3_isBelow cX3_isBelow 2 (some .boolean) 0 [.double v] (.int (m_below v)) := by
  refine pf_of (by decide) (Nat.le_of_ble_eq_true rfl) ?_
  intro p e s m args below meth c ls hx hb hr hts hown hlk hml hl
  have hl : lv_has ls 2 [(0, .double v)] := hl
  refine lv_dload_n hx hb dX3_isBelow_0 rfl (lv_at hl 0 rfl) ?_
  refine lv_dconst0 hx hb dX3_isBelow_1 ?_
  refine lv_dcmp hx hb dX3_isBelow_2 ?_
  refine lv_topi (fun v2 e2 => ?_)
  refine lv_if_lt (tgt := 20) hx hb dX3_isBelow_3 (by decide) (fun c3 => ?_) (fun c3 => ?_)
  · refine lv_iconst (v := 1) hx hb dX3_isBelow_20 (by decide) ?_
    refine lv_goto (tgt := 25) hx hb dX3_isBelow_21 (by decide) ?_
    exact pf_zret hx hb hr hlk dX3_isBelow_25 rfl (below_a (by rw [← e2]; exact c3))
  · refine lv_dload_n hx hb dX3_isBelow_6 rfl (lv_at hl 0 rfl) ?_
    refine lv_dconst0 hx hb dX3_isBelow_7 ?_
    refine lv_dcmp hx hb dX3_isBelow_8 ?_
    refine lv_topi (fun v8 e8 => ?_)
    refine lv_if_ne (tgt := 24) hx hb dX3_isBelow_9 (by decide) (fun c9 => ?_) (fun c9 => ?_)
    · refine lv_iconst (v := 0) hx hb dX3_isBelow_24 (by decide) ?_
      exact pf_zret hx hb hr hlk dX3_isBelow_25 rfl (below_b h (by rw [← e2]; exact c3) (by rw [← e8]; exact c9))
    · refine lv_dconst1 hx hb dX3_isBelow_12 ?_
      refine lv_dload_n hx hb dX3_isBelow_13 rfl (lv_at hl 0 rfl) ?_
      refine lv_ddiv hx hb dX3_isBelow_14 (by rw [e8] at c9; exact (below_c c9).1) ?_
      refine lv_topd (fun v14 e14 => ?_)
      refine lv_dconst0 hx hb dX3_isBelow_15 ?_
      refine lv_dcmp hx hb dX3_isBelow_16 ?_
      refine lv_topi (fun v16 e16 => ?_)
      refine lv_if_ge (tgt := 24) hx hb dX3_isBelow_17 (by decide) (fun c17 => ?_) (fun c17 => ?_)
      · refine lv_iconst (v := 0) hx hb dX3_isBelow_24 (by decide) ?_
        exact pf_zret hx hb hr hlk dX3_isBelow_25 rfl (by rw [e8] at c9; rw [e16, e14] at c17; exact (below_c c9).2.2 (fun q => absurd (i0_ge c17) (by have := i0_lt q; omega)))
      · refine lv_iconst (v := 1) hx hb dX3_isBelow_20 (by decide) ?_
        refine lv_goto (tgt := 25) hx hb dX3_isBelow_21 (by decide) ?_
        exact pf_zret hx hb hr hlk dX3_isBelow_25 rfl (by rw [e8] at c9; rw [e16, e14] at c17; exact (below_c c9).2.1 (Int32.lt_iff_toInt_lt.mpr (i0_nge c17)))
