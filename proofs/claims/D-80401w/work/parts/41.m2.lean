/-! the reference's numbers with points -/
set_option maxRecDepth 100000
set_option maxHeartbeats 4000000 in
theorem met_X3_power (l : Launch) (e0 : Int32) (h1 : -1022 ≤ e0.toInt) (h2 : e0.toInt ≤ 1023) : PF l yX3_power cX3_power 5 (some .double) 0 [.int e0] (.double (pw e0.toInt)) := by
  refine pf_of (by decide) (Nat.le_of_ble_eq_true rfl) ?_
  intro p e s m args below meth c ls hx hb hr hts hown hlk hml hl
  have hl : lv_has ls 5 [(0, .int e0)] := hl
  have hz : e0.toInt.natAbs ≤ 1023 := by omega
  have loop : ∀ (j9 : Nat) (K : Nat) (k n : Int32) (v : UInt64) (x : Int) (ls : Array Slot), e0.toInt.natAbs - K < j9 → k = nI K → n = nI e0.toInt.natAbs → K ≤ e0.toInt.natAbs → (e0.toInt < 0 → x = -(K : Int)) → (0 ≤ e0.toInt → x = (K : Int)) → v = pw x → lv_has ls 5 [(4, .int k), (3, .int n), (1, .double v), (0, .int e0)] → pW yX3_power cX3_power 5 (some .double) 0 (.double (pw e0.toInt)) p l e s m args below meth c (F0 m 16 ls []) := by
    intro j9
    induction j9 with
    | zero =>
      intro K k n v x ls h9
      exact absurd h9 (Nat.not_lt_zero _)
    | succ j9 ih =>
      intro K k n v x ls hj9 hk hn hK hx1 hx2 hv hl
      refine lv_iload hx hb dX3_power_16 (lv_at hl 0 rfl) ?_
      refine lv_iload_n hx hb dX3_power_18 rfl (lv_at hl 1 rfl) ?_
      refine lv_icmp_ge (tgt := 46) hx hb dX3_power_19 (by decide) (fun c19 => ?_) (fun c19 => ?_)
      · refine lv_dload_n hx hb dX3_power_46 rfl (lv_at hl 2 rfl) ?_
        exact pf_dret hx hb hr hlk dX3_power_47 (by rw [hv]; congr 1; rw [hk, hn] at c19; have := nI_lim' c19 (by omega); omega)
      · refine lv_iload_n hx hb dX3_power_22 rfl (lv_at hl 3 rfl) ?_
        refine lv_if_ge (tgt := 34) hx hb dX3_power_23 (by decide) (fun c23 => ?_) (fun c23 => ?_)
        · refine lv_dload_n hx hb dX3_power_34 rfl (lv_at hl 2 rfl) ?_
          refine lv_ldc2d (v := 4611686018427387904) hx hb hown (hts _ q1040) dX3_power_35 ?_
          refine lv_dmul hx hb dX3_power_38 (by have := i0_ge c23; rw [i0_0] at this; rw [hk, hn] at c19; have := nI_lim c19 (by omega); rw [hv, pw_1, pw_mul (by omega) (by omega) (by omega) (by omega) (by omega) (by omega)]; exact pw_dyn (by omega) (by omega)) ?_
          refine lv_topd (fun v38 e38 => ?_)
          refine lv_dstore_n (lv' := [(1, .double v38), (4, .int k), (3, .int n), (0, .int e0)]) hx hb dX3_power_39 rfl hl (by decide) rfl (fun ls hl => ?_)
          obtain ⟨v40, e40⟩ : ∃ y : Int32, y = k + 1 := ⟨_, rfl⟩
          refine lv_iinc (v := v40) (lv' := [(4, .int v40), (1, .double v38), (3, .int n), (0, .int e0)]) hx hb dX3_power_40 hl (k := 1) rfl (by rw [e40]; rfl) (by decide) rfl (fun ls hl => ?_)
          refine lv_goto (tgt := 16) hx hb dX3_power_43 (by decide) ?_
          have hlim : K < e0.toInt.natAbs := by rw [hk, hn] at c19; exact nI_lim c19 (by omega)
          have := i0_ge c23; rw [i0_0] at this
          exact ih (K + 1) v40 n v38 (x + 1) ls (by omega) (by rw [e40, hk]; exact nI_1 K) hn (by omega) (by omega) (by omega) (by rw [e38, hv, pw_1, pw_mul (by omega) (by omega) (by omega) (by omega) (by omega) (by omega)]; try congr 1) (lv_sub hl [0, 2, 1, 3] rfl)
        · refine lv_dload_n hx hb dX3_power_26 rfl (lv_at hl 2 rfl) ?_
          refine lv_ldc2d (v := 4602678819172646912) hx hb hown (hts _ q1039) dX3_power_27 ?_
          refine lv_dmul hx hb dX3_power_30 (by have := i0_nge c23; rw [i0_0] at this; rw [hk, hn] at c19; have := nI_lim c19 (by omega); rw [hv, pw_m1, pw_mul (by omega) (by omega) (by omega) (by omega) (by omega) (by omega)]; exact pw_dyn (by omega) (by omega)) ?_
          refine lv_topd (fun v30 e30 => ?_)
          refine lv_goto (tgt := 39) hx hb dX3_power_31 (by decide) ?_
          refine lv_dstore_n (lv' := [(1, .double v30), (4, .int k), (3, .int n), (0, .int e0)]) hx hb dX3_power_39 rfl hl (by decide) rfl (fun ls hl => ?_)
          obtain ⟨v40, e40⟩ : ∃ y : Int32, y = k + 1 := ⟨_, rfl⟩
          refine lv_iinc (v := v40) (lv' := [(4, .int v40), (1, .double v30), (3, .int n), (0, .int e0)]) hx hb dX3_power_40 hl (k := 1) rfl (by rw [e40]; rfl) (by decide) rfl (fun ls hl => ?_)
          refine lv_goto (tgt := 16) hx hb dX3_power_43 (by decide) ?_
          have hlim : K < e0.toInt.natAbs := by rw [hk, hn] at c19; exact nI_lim c19 (by omega)
          have := i0_nge c23; rw [i0_0] at this
          exact ih (K + 1) v40 n v30 (x - 1) ls (by omega) (by rw [e40, hk]; exact nI_1 K) hn (by omega) (by omega) (by omega) (by rw [e30, hv, pw_m1, pw_mul (by omega) (by omega) (by omega) (by omega) (by omega) (by omega)]; try congr 1) (lv_sub hl [0, 2, 1, 3] rfl)
  refine lv_dconst1 hx hb dX3_power_0 ?_
  refine lv_dstore_n (lv' := [(1, .double FP.dconst1), (0, .int e0)]) hx hb dX3_power_1 rfl hl (by decide) rfl (fun ls hl => ?_)
  refine lv_iload_n hx hb dX3_power_2 rfl (lv_at hl 1 rfl) ?_
  refine lv_if_ge (tgt := 11) hx hb dX3_power_3 (by decide) (fun c3 => ?_) (fun c3 => ?_)
  · refine lv_iload_n hx hb dX3_power_11 rfl (lv_at hl 1 rfl) ?_
    refine lv_istore_n (lv' := [(3, .int e0), (1, .double FP.dconst1), (0, .int e0)]) hx hb dX3_power_12 rfl hl (by decide) rfl (fun ls hl => ?_)
    refine lv_iconst (v := 0) hx hb dX3_power_13 (by decide) ?_
    refine lv_istore (lv' := [(4, .int 0), (3, .int e0), (1, .double FP.dconst1), (0, .int e0)]) hx hb dX3_power_14 hl (by decide) rfl (fun ls hl => ?_)
    exact loop _ 0 0 e0 FP.dconst1 0 ls (Nat.lt_succ_self _) rfl (by have h9 := i0_ge c3; rw [i0_0] at h9; apply Int32.toInt_inj.mp; rw [nI_toInt (by omega)]; omega) (Nat.zero_le _) (by omega) (by omega) pw_0 (lv_sub hl [0, 1, 2, 3] rfl)
  · refine lv_iload_n hx hb dX3_power_6 rfl (lv_at hl 1 rfl) ?_
    refine lv_ineg hx hb dX3_power_7 ?_
    refine lv_topi (fun v7 e7 => ?_)
    refine lv_goto (tgt := 12) hx hb dX3_power_8 (by decide) ?_
    refine lv_istore_n (lv' := [(3, .int v7), (1, .double FP.dconst1), (0, .int e0)]) hx hb dX3_power_12 rfl hl (by decide) rfl (fun ls hl => ?_)
    refine lv_iconst (v := 0) hx hb dX3_power_13 (by decide) ?_
    refine lv_istore (lv' := [(4, .int 0), (3, .int v7), (1, .double FP.dconst1), (0, .int e0)]) hx hb dX3_power_14 hl (by decide) rfl (fun ls hl => ?_)
    exact loop _ 0 0 v7 FP.dconst1 0 ls (Nat.lt_succ_self _) rfl (by have h9 := i0_nge c3; rw [i0_0] at h9; rw [e7]; apply Int32.toInt_inj.mp; rw [nI_toInt (by omega), Int32.toInt_neg, Int.bmod_eq_of_le (by omega) (by omega)]; omega) (Nat.zero_le _) (by omega) (by omega) pw_0 (lv_sub hl [0, 1, 2, 3] rfl)
set_option maxHeartbeats 4000000 in
theorem met_X3_moved (l : Launch) (m0 : Int64) (e0 : Int32) (h0 : 0 ≤ m0.toInt) (h3 : m0.toInt < 2 ^ 53) (h1 : -1074 ≤ e0.toInt) (h2 : e0.toInt ≤ 971) : PF l yX3_moved cX3_moved 7 (some .double) 1 [.long m0, .int e0] (.double (mv m0.toInt.toNat e0.toInt)) := by
  refine pf_of (by decide) (Nat.le_of_ble_eq_true rfl) ?_
  intro p e s m args below meth c ls hx hb hr hts hown hlk hml hl
  have hl : lv_has ls 7 [(0, .long m0), (2, .int e0)] := hl
  have loop : ∀ (j9 : Nat) (x : Int32) (v : UInt64) (ls : Array Slot), x.toInt.natAbs < j9 → (0 ≤ e0.toInt → 0 ≤ x.toInt ∧ x.toInt ≤ e0.toInt) → (e0.toInt ≤ 0 → e0.toInt ≤ x.toInt ∧ x.toInt ≤ 0) → Dy64 v false m0.toInt.toNat (e0.toInt - x.toInt) → lv_has ls 7 [(5, .int x), (3, .double v), (2, .int e0), (0, .long m0)] → pW yX3_moved cX3_moved 7 (some .double) 1 (.double (mv m0.toInt.toNat e0.toInt)) p l e s m args below meth c (F0 m 6 ls []) := by
    intro j9
    induction j9 with
    | zero =>
      intro x v ls h9
      exact absurd h9 (Nat.not_lt_zero _)
    | succ j9 ih =>
      intro x v ls hj9 hx1 hx2 hv hl
      refine lv_iload hx hb dX3_moved_6 (lv_at hl 0 rfl) ?_
      refine lv_if_eq (tgt := 61) hx hb dX3_moved_8 (by decide) (fun c8 => ?_) (fun c8 => ?_)
      · refine lv_dload_n hx hb dX3_moved_61 rfl (lv_at hl 1 rfl) ?_
        exact pf_dret hx hb hr hlk dX3_moved_62 (by have hx0 : x.toInt = 0 := (by rw [c8]; rfl); rw [hx0, Int.sub_zero] at hv; exact dy_uniq64 hv (mv_dy (by omega) h1 h2))
      · refine lv_iload hx hb dX3_moved_11 (lv_at hl 0 rfl) ?_
        refine lv_sipush (v := 500) hx hb dX3_moved_13 (by decide) ?_
        refine lv_icmp_le (tgt := 25) hx hb dX3_moved_16 (by decide) (fun c16 => ?_) (fun c16 => ?_)
        · refine lv_iload hx hb dX3_moved_25 (lv_at hl 0 rfl) ?_
          refine lv_sipush (v := -500) hx hb dX3_moved_27 (by decide) ?_
          refine lv_icmp_ge (tgt := 39) hx hb dX3_moved_30 (by decide) (fun c30 => ?_) (fun c30 => ?_)
          · refine lv_iload hx hb dX3_moved_39 (lv_at hl 0 rfl) ?_
            refine lv_istore (lv' := [(6, .int x), (5, .int x), (3, .double v), (2, .int e0), (0, .long m0)]) hx hb dX3_moved_41 hl (by decide) rfl (fun ls hl => ?_)
            have hx0 : x.toInt ≠ 0 := fun q => c8 (Int32.toInt_inj.mp q)
            have hy : x.toInt = x.toInt := rfl
            have hbd1 := i0_le c16
            have hbd2 := i0_ge c30
            have i500 : (500 : Int32).toInt = 500 := rfl
            have im500 : (-500 : Int32).toInt = -500 := rfl
            have hbd : -500 ≤ x.toInt ∧ x.toInt ≤ 500 := ⟨by omega, by omega⟩
            have hd2 := dy_shift (k := x.toInt) (g := e0.toInt - (x.toInt - x.toInt)) hv (by omega) (by omega) (by omega) (by omega) (by omega) (by omega) (by omega)
            refine lv_dload_n hx hb dX3_moved_43 rfl (lv_at hl 2 rfl) ?_
            refine lv_iload hx hb dX3_moved_44 (lv_at hl 0 rfl) ?_
            refine pf_S 1 hx hb hml hown hts (As := [.int x]) (met_X3_power l x (by omega) (by omega)) (lw_S q1036 q1037 q28 q1038) (by decide +kernel) rfl ⟨Nat.le_of_ble_eq_true rfl, Nat.le_of_ble_eq_true rfl⟩ hl.1 rfl (Nat.le_of_ble_eq_true rfl) dX3_moved_46 ⟨Nat.le_of_ble_eq_true rfl, Nat.le_of_ble_eq_true rfl⟩ ?_
            refine lv_topd (fun v46 e46 => ?_)
            refine lv_dmul hx hb dX3_moved_49 (by rw [e46]; exact dy_vf64 hd2) ?_
            refine lv_topd (fun v49 e49 => ?_)
            refine lv_dstore_n (lv' := [(3, .double v49), (6, .int x), (5, .int x), (2, .int e0), (0, .long m0)]) hx hb dX3_moved_50 rfl hl (by decide) rfl (fun ls hl => ?_)
            refine lv_iload hx hb dX3_moved_51 (lv_at hl 2 rfl) ?_
            refine lv_iload hx hb dX3_moved_53 (lv_at hl 1 rfl) ?_
            refine lv_isub hx hb dX3_moved_55 ?_
            refine lv_topi (fun v55 e55 => ?_)
            refine lv_istore (lv' := [(5, .int v55), (3, .double v49), (6, .int x), (2, .int e0), (0, .long m0)]) hx hb dX3_moved_56 hl (by decide) rfl (fun ls hl => ?_)
            have hw : v55.toInt = x.toInt - x.toInt := by rw [e55, Int32.toInt_sub, Int.bmod_eq_of_le (by omega) (by omega)]
            rw [← hw, ← e46, ← e49] at hd2
            refine lv_goto (tgt := 6) hx hb dX3_moved_58 (by decide) ?_
            exact ih v55 v49 ls (by omega) (by omega) (by omega) hd2 (lv_sub hl [0, 1, 3, 4] rfl)
          · refine lv_sipush (v := -500) hx hb dX3_moved_33 (by decide) ?_
            refine lv_goto (tgt := 41) hx hb dX3_moved_36 (by decide) ?_
            refine lv_istore (lv' := [(6, .int (-500)), (5, .int x), (3, .double v), (2, .int e0), (0, .long m0)]) hx hb dX3_moved_41 hl (by decide) rfl (fun ls hl => ?_)
            have hx0 : x.toInt ≠ 0 := fun q => c8 (Int32.toInt_inj.mp q)
            have hy : (-500 : Int32).toInt = -500 := rfl
            have hbd := i0_nge c30
            have hd2 := dy_shift (k := (-500 : Int32).toInt) (g := e0.toInt - (x.toInt - (-500 : Int32).toInt)) hv (by omega) (by omega) (by omega) (by omega) (by omega) (by omega) (by omega)
            refine lv_dload_n hx hb dX3_moved_43 rfl (lv_at hl 2 rfl) ?_
            refine lv_iload hx hb dX3_moved_44 (lv_at hl 0 rfl) ?_
            refine pf_S 1 hx hb hml hown hts (As := [.int (-500)]) (met_X3_power l (-500) (by omega) (by omega)) (lw_S q1036 q1037 q28 q1038) (by decide +kernel) rfl ⟨Nat.le_of_ble_eq_true rfl, Nat.le_of_ble_eq_true rfl⟩ hl.1 rfl (Nat.le_of_ble_eq_true rfl) dX3_moved_46 ⟨Nat.le_of_ble_eq_true rfl, Nat.le_of_ble_eq_true rfl⟩ ?_
            refine lv_topd (fun v46 e46 => ?_)
            refine lv_dmul hx hb dX3_moved_49 (by rw [e46]; exact dy_vf64 hd2) ?_
            refine lv_topd (fun v49 e49 => ?_)
            refine lv_dstore_n (lv' := [(3, .double v49), (6, .int (-500)), (5, .int x), (2, .int e0), (0, .long m0)]) hx hb dX3_moved_50 rfl hl (by decide) rfl (fun ls hl => ?_)
            refine lv_iload hx hb dX3_moved_51 (lv_at hl 2 rfl) ?_
            refine lv_iload hx hb dX3_moved_53 (lv_at hl 1 rfl) ?_
            refine lv_isub hx hb dX3_moved_55 ?_
            refine lv_topi (fun v55 e55 => ?_)
            refine lv_istore (lv' := [(5, .int v55), (3, .double v49), (6, .int (-500)), (2, .int e0), (0, .long m0)]) hx hb dX3_moved_56 hl (by decide) rfl (fun ls hl => ?_)
            have hw : v55.toInt = x.toInt - (-500 : Int32).toInt := by rw [e55, Int32.toInt_sub, Int.bmod_eq_of_le (by omega) (by omega)]
            rw [← hw, ← e46, ← e49] at hd2
            refine lv_goto (tgt := 6) hx hb dX3_moved_58 (by decide) ?_
            exact ih v55 v49 ls (by omega) (by omega) (by omega) hd2 (lv_sub hl [0, 1, 3, 4] rfl)
        · refine lv_sipush (v := 500) hx hb dX3_moved_19 (by decide) ?_
          refine lv_goto (tgt := 41) hx hb dX3_moved_22 (by decide) ?_
          refine lv_istore (lv' := [(6, .int 500), (5, .int x), (3, .double v), (2, .int e0), (0, .long m0)]) hx hb dX3_moved_41 hl (by decide) rfl (fun ls hl => ?_)
          have hx0 : x.toInt ≠ 0 := fun q => c8 (Int32.toInt_inj.mp q)
          have hy : (500 : Int32).toInt = 500 := rfl
          have hbd := i0_nle c16
          have hd2 := dy_shift (k := (500 : Int32).toInt) (g := e0.toInt - (x.toInt - (500 : Int32).toInt)) hv (by omega) (by omega) (by omega) (by omega) (by omega) (by omega) (by omega)
          refine lv_dload_n hx hb dX3_moved_43 rfl (lv_at hl 2 rfl) ?_
          refine lv_iload hx hb dX3_moved_44 (lv_at hl 0 rfl) ?_
          refine pf_S 1 hx hb hml hown hts (As := [.int 500]) (met_X3_power l 500 (by omega) (by omega)) (lw_S q1036 q1037 q28 q1038) (by decide +kernel) rfl ⟨Nat.le_of_ble_eq_true rfl, Nat.le_of_ble_eq_true rfl⟩ hl.1 rfl (Nat.le_of_ble_eq_true rfl) dX3_moved_46 ⟨Nat.le_of_ble_eq_true rfl, Nat.le_of_ble_eq_true rfl⟩ ?_
          refine lv_topd (fun v46 e46 => ?_)
          refine lv_dmul hx hb dX3_moved_49 (by rw [e46]; exact dy_vf64 hd2) ?_
          refine lv_topd (fun v49 e49 => ?_)
          refine lv_dstore_n (lv' := [(3, .double v49), (6, .int 500), (5, .int x), (2, .int e0), (0, .long m0)]) hx hb dX3_moved_50 rfl hl (by decide) rfl (fun ls hl => ?_)
          refine lv_iload hx hb dX3_moved_51 (lv_at hl 2 rfl) ?_
          refine lv_iload hx hb dX3_moved_53 (lv_at hl 1 rfl) ?_
          refine lv_isub hx hb dX3_moved_55 ?_
          refine lv_topi (fun v55 e55 => ?_)
          refine lv_istore (lv' := [(5, .int v55), (3, .double v49), (6, .int 500), (2, .int e0), (0, .long m0)]) hx hb dX3_moved_56 hl (by decide) rfl (fun ls hl => ?_)
          have hw : v55.toInt = x.toInt - (500 : Int32).toInt := by rw [e55, Int32.toInt_sub, Int.bmod_eq_of_le (by omega) (by omega)]
          rw [← hw, ← e46, ← e49] at hd2
          refine lv_goto (tgt := 6) hx hb dX3_moved_58 (by decide) ?_
          exact ih v55 v49 ls (by omega) (by omega) (by omega) hd2 (lv_sub hl [0, 1, 3, 4] rfl)
  refine lv_lload_n hx hb dX3_moved_0 rfl (lv_at hl 0 rfl) ?_
  refine lv_l2d hx hb dX3_moved_1 ?_
  refine lv_topd (fun v1 e1 => ?_)
  refine lv_dstore_n (lv' := [(3, .double v1), (0, .long m0), (2, .int e0)]) hx hb dX3_moved_2 rfl hl (by decide) rfl (fun ls hl => ?_)
  refine lv_iload_n hx hb dX3_moved_3 rfl (lv_at hl 2 rfl) ?_
  refine lv_istore (lv' := [(5, .int e0), (3, .double v1), (0, .long m0), (2, .int e0)]) hx hb dX3_moved_4 hl (by decide) rfl (fun ls hl => ?_)
  exact loop _ e0 v1 ls (Nat.lt_succ_self _) (by omega) (by omega) (by rw [e1, Int.sub_self]; exact l2d_dy h0 h3) (lv_sub hl [0, 1, 3, 2] rfl)
set_option maxHeartbeats 4000000 in
theorem met_X3_real (l : Launch) (b : Int64) : PF l yX3_real cX3_real 7 (some .double) 2 [.long b] (.double (m_real b)) := by
  refine pf_of (by decide) (Nat.le_of_ble_eq_true rfl) ?_
  intro p e s m args below meth c ls hx hb hr hts hown hlk hml hl
  have hl : lv_has ls 7 [(0, .long b)] := hl
  refine lv_lload_n hx hb dX3_real_0 rfl (lv_at hl 0 rfl) ?_
  refine lv_bipush (v := 52) hx hb dX3_real_1 (by decide) ?_
  refine lv_lushr hx hb dX3_real_3 rfl ?_
  refine lv_topl (fun v3 e3 => ?_)
  refine lv_l2i hx hb dX3_real_4 rfl ?_
  refine lv_topi (fun v4 e4 => ?_)
  refine lv_sipush (v := 2047) hx hb dX3_real_5 (by decide) ?_
  refine lv_iand hx hb dX3_real_8 ?_
  refine lv_topi (fun v8 e8 => ?_)
  refine lv_istore_n (lv' := [(2, .int v8), (0, .long b)]) hx hb dX3_real_9 rfl hl (by decide) rfl (fun ls hl => ?_)
  refine lv_lload_n hx hb dX3_real_10 rfl (lv_at hl 1 rfl) ?_
  refine lv_ldc2 (v := 4503599627370495) hx hb hown (hts _ q1052) dX3_real_11 ?_
  refine lv_land hx hb dX3_real_14 ?_
  refine lv_topl (fun v14 e14 => ?_)
  have hE := lv_u52 b
  rw [← e3, ← e4, ← e8] at hE
  have hM := lv_a52 b
  rw [← e14] at hM
  refine lv_lstore_n (lv' := [(3, .long v14), (2, .int v8), (0, .long b)]) hx hb dX3_real_15 rfl hl (by decide) rfl (fun ls hl => ?_)
  refine lv_iload_n hx hb dX3_real_16 rfl (lv_at hl 1 rfl) ?_
  refine lv_sipush (v := 2047) hx hb dX3_real_17 (by decide) ?_
  refine lv_icmp_ne (tgt := 51) hx hb dX3_real_20 (by decide) (fun c20 => ?_) (fun c20 => ?_)
  · refine lv_iload_n hx hb dX3_real_51 rfl (lv_at hl 1 rfl) ?_
    refine lv_if_ne (tgt := 65) hx hb dX3_real_52 (by decide) (fun c52 => ?_) (fun c52 => ?_)
    · refine lv_lload_n hx hb dX3_real_65 rfl (lv_at hl 0 rfl) ?_
      refine lv_ldc2 (v := 4503599627370496) hx hb hown (hts _ q1079) dX3_real_66 ?_
      refine lv_lor hx hb dX3_real_69 ?_
      refine lv_topl (fun v69 e69 => ?_)
      refine lv_iload_n hx hb dX3_real_70 rfl (lv_at hl 1 rfl) ?_
      refine lv_sipush (v := 1075) hx hb dX3_real_71 (by decide) ?_
      refine lv_isub hx hb dX3_real_74 ?_
      refine lv_topi (fun v74 e74 => ?_)
      have hO := lv_o52 b
      rw [← e14, ← e69] at hO
      have hT0 : b.toUInt64.toNat / 2 ^ 52 % 2048 ≠ 2047 := fun q => c20 (Int32.toInt_inj.mp (by rw [hE, q]; rfl))
      have hZ0 : b.toUInt64.toNat / 2 ^ 52 % 2048 ≠ 0 := fun q => c52 (Int32.toInt_inj.mp (by rw [hE, q]; rfl))
      have hW : v74.toInt = ((b.toUInt64.toNat / 2 ^ 52 % 2048 : Nat) : Int) - 1075 := by rw [e74, Int32.toInt_sub, hE, show (1075 : Int32).toInt = 1075 from rfl, Int.bmod_eq_of_le (by omega) (by omega)]
      refine pf_S 2 hx hb hml hown hts (As := [.long v69, .int v74]) (met_X3_moved l v69 v74 (by rw [hO]; omega) (by rw [hO]; omega) (by rw [hW]; omega) (by rw [hW]; omega)) (lw_S q1067 q1068 q28 q1069) (by decide +kernel) rfl ⟨Nat.le_of_ble_eq_true rfl, Nat.le_of_ble_eq_true rfl⟩ hl.1 rfl (Nat.le_of_ble_eq_true rfl) dX3_real_75 ⟨Nat.le_of_ble_eq_true rfl, Nat.le_of_ble_eq_true rfl⟩ ?_
      refine lv_topd (fun v75 e75 => ?_)
      have hT : b.toUInt64.toNat / 2 ^ 52 % 2048 ≠ 2047 := fun q => c20 (Int32.toInt_inj.mp (by rw [hE, q]; rfl))
      have hz : b.toUInt64.toNat / 2 ^ 52 % 2048 ≠ 0 := fun q => c52 (Int32.toInt_inj.mp (by rw [hE, q]; rfl))
      have hv := real_pos (v := v75) rfl rfl hT (Or.inr ⟨hz, by rw [e75, hO, hW]; exact mv_dy (by omega) (by omega) (by omega)⟩)
      refine lv_dstore (lv' := [(5, .double v75), (3, .long v14), (2, .int v8), (0, .long b)]) hx hb dX3_real_78 hl (by decide) rfl (fun ls hl => ?_)
      refine lv_lload_n hx hb dX3_real_80 rfl (lv_at hl 3 rfl) ?_
      refine lv_lconst (v := 0) hx hb dX3_real_81 (by decide) ?_
      refine W.lcmp hx hb dX3_real_82 ?_
      refine lv_topi (fun v82 e82 => ?_)
      refine lv_if_ge (tgt := 92) hx hb dX3_real_83 (by decide) (fun c83 => ?_) (fun c83 => ?_)
      · refine lv_dload hx hb dX3_real_92 (lv_at hl 0 rfl) ?_
        exact pf_dret hx hb hr hlk dX3_real_94 (by rw [e82] at c83; exact (real_fin hT hv).2 (zg_cmp_ge.mp c83))
      · refine lv_dload hx hb dX3_real_86 (lv_at hl 0 rfl) ?_
        refine lv_dneg hx hb dX3_real_88 ?_
        refine lv_topd (fun v88 e88 => ?_)
        refine lv_goto (tgt := 94) hx hb dX3_real_89 (by decide) ?_
        exact pf_dret hx hb hr hlk dX3_real_94 (by rw [e82] at c83; rw [e88]; exact (real_fin hT hv).1 (Decidable.not_not.mp fun q => c83 (zg_cmp_ge.mpr q)))
    · refine lv_lload_n hx hb dX3_real_55 rfl (lv_at hl 0 rfl) ?_
      refine lv_sipush (v := -1074) hx hb dX3_real_56 (by decide) ?_
      refine pf_S 2 hx hb hml hown hts (As := [.long v14, .int (-1074)]) (met_X3_moved l v14 (-1074) (by rw [hM]; omega) (by rw [hM]; omega) (by decide) (by decide)) (lw_S q1067 q1068 q28 q1069) (by decide +kernel) rfl ⟨Nat.le_of_ble_eq_true rfl, Nat.le_of_ble_eq_true rfl⟩ hl.1 rfl (Nat.le_of_ble_eq_true rfl) dX3_real_59 ⟨Nat.le_of_ble_eq_true rfl, Nat.le_of_ble_eq_true rfl⟩ ?_
      refine lv_topd (fun v59 e59 => ?_)
      refine lv_goto (tgt := 78) hx hb dX3_real_62 (by decide) ?_
      have hT : b.toUInt64.toNat / 2 ^ 52 % 2048 ≠ 2047 := fun q => c20 (Int32.toInt_inj.mp (by rw [hE, q]; rfl))
      have hz : b.toUInt64.toNat / 2 ^ 52 % 2048 = 0 := by rw [c52] at hE; have h9 : (0 : Int32).toInt = 0 := rfl; omega
      have hv := real_pos (v := v59) rfl rfl hT (Or.inl ⟨hz, by rw [e59, hM]; exact mv_dy (by omega) (by decide) (by decide)⟩)
      refine lv_dstore (lv' := [(5, .double v59), (3, .long v14), (2, .int v8), (0, .long b)]) hx hb dX3_real_78 hl (by decide) rfl (fun ls hl => ?_)
      refine lv_lload_n hx hb dX3_real_80 rfl (lv_at hl 3 rfl) ?_
      refine lv_lconst (v := 0) hx hb dX3_real_81 (by decide) ?_
      refine W.lcmp hx hb dX3_real_82 ?_
      refine lv_topi (fun v82 e82 => ?_)
      refine lv_if_ge (tgt := 92) hx hb dX3_real_83 (by decide) (fun c83 => ?_) (fun c83 => ?_)
      · refine lv_dload hx hb dX3_real_92 (lv_at hl 0 rfl) ?_
        exact pf_dret hx hb hr hlk dX3_real_94 (by rw [e82] at c83; exact (real_fin hT hv).2 (zg_cmp_ge.mp c83))
      · refine lv_dload hx hb dX3_real_86 (lv_at hl 0 rfl) ?_
        refine lv_dneg hx hb dX3_real_88 ?_
        refine lv_topd (fun v88 e88 => ?_)
        refine lv_goto (tgt := 94) hx hb dX3_real_89 (by decide) ?_
        exact pf_dret hx hb hr hlk dX3_real_94 (by rw [e82] at c83; rw [e88]; exact (real_fin hT hv).1 (Decidable.not_not.mp fun q => c83 (zg_cmp_ge.mpr q)))
  · refine lv_lload_n hx hb dX3_real_23 rfl (lv_at hl 0 rfl) ?_
    refine lv_lconst (v := 0) hx hb dX3_real_24 (by decide) ?_
    refine W.lcmp hx hb dX3_real_25 ?_
    refine lv_topi (fun v25 e25 => ?_)
    refine lv_if_eq (tgt := 35) hx hb dX3_real_26 (by decide) (fun c26 => ?_) (fun c26 => ?_)
    · refine lv_lload_n hx hb dX3_real_35 rfl (lv_at hl 2 rfl) ?_
      refine lv_lconst (v := 0) hx hb dX3_real_36 (by decide) ?_
      refine W.lcmp hx hb dX3_real_37 ?_
      refine lv_topi (fun v37 e37 => ?_)
      refine lv_if_ge (tgt := 47) hx hb dX3_real_38 (by decide) (fun c38 => ?_) (fun c38 => ?_)
      · refine lv_ldc2d (v := 9218868437227405312) hx hb hown (hts _ q1034) dX3_real_47 ?_
        exact pf_dret hx hb hr hlk dX3_real_50 (by have hT : b.toUInt64.toNat / 2 ^ 52 % 2048 = 2047 := (by rw [c20] at hE; have h9 : (2047 : Int32).toInt = 2047 := rfl; omega); have hz : b.toUInt64.toNat % 2 ^ 52 = 0 := (by rw [e25] at c26; have h8 := zg_cmp0.mp c26; rw [h8] at hM; have h9 : (0 : Int64).toInt = 0 := rfl; omega); rw [e37] at c38; exact ((real_top hT).2 hz).2 (zg_cmp_ge.mp c38))
      · refine lv_ldc2d (v := 18442240474082181120) hx hb hown (hts _ q1078) dX3_real_41 ?_
        refine lv_goto (tgt := 50) hx hb dX3_real_44 (by decide) ?_
        exact pf_dret hx hb hr hlk dX3_real_50 (by have hT : b.toUInt64.toNat / 2 ^ 52 % 2048 = 2047 := (by rw [c20] at hE; have h9 : (2047 : Int32).toInt = 2047 := rfl; omega); have hz : b.toUInt64.toNat % 2 ^ 52 = 0 := (by rw [e25] at c26; have h8 := zg_cmp0.mp c26; rw [h8] at hM; have h9 : (0 : Int64).toInt = 0 := rfl; omega); rw [e37] at c38; exact ((real_top hT).2 hz).1 (Decidable.not_not.mp fun q => c38 (zg_cmp_ge.mpr q)))
    · refine lv_ldc2d (v := 9221120237041090560) hx hb hown (hts _ q1077) dX3_real_29 ?_
      refine lv_goto (tgt := 50) hx hb dX3_real_32 (by decide) ?_
      exact pf_dret hx hb hr hlk dX3_real_50 (by have hT : b.toUInt64.toNat / 2 ^ 52 % 2048 = 2047 := (by rw [c20] at hE; have h9 : (2047 : Int32).toInt = 2047 := rfl; omega); rw [e25] at c26; exact (real_top hT).1 (fun q => c26 (zg_cmp0.mpr (Int64.toInt_inj.mp (by rw [hM, q]; rfl)))))
