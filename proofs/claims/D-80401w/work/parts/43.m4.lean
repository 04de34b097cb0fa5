/-! the reference's numbers with points: their bits -/
set_option maxRecDepth 100000
set_option maxHeartbeats 4000000 in
theorem met_X3_bitsOf (l : Launch) (d0 : UInt64) : PF l yX3_bitsOf cX3_bitsOf 7 (some .long) 1 [.double d0] (.long (m_bits d0)) := by
  refine pf_of (by decide) (Nat.le_of_ble_eq_true rfl) ?_
  intro p e s m args below meth c ls hx hb hr hts hown hlk hml hl
  have hl : lv_has ls 7 [(0, .double d0)] := hl
  refine lv_dload_n hx hb dX3_bitsOf_0 rfl (lv_at hl 0 rfl) ?_
  refine lv_dload_n hx hb dX3_bitsOf_1 rfl (lv_at hl 0 rfl) ?_
  refine lv_dcmp hx hb dX3_bitsOf_2 ?_
  refine lv_topi (fun v2 e2 => ?_)
  refine lv_if_eq (tgt := 10) hx hb dX3_bitsOf_3 (by decide) (fun c3 => ?_) (fun c3 => ?_)
  · have hn : FV64 d0 ≠ .nan := fc_self64.mp (cv_eq_l.mp (by rw [← e2]; exact c3))
    refine lv_dload_n hx hb dX3_bitsOf_10 rfl (lv_at hl 0 rfl) ?_
    refine pf_S 1 hx hb hml hown hts (As := [.double d0]) (met_X3_isBelow l d0 hn) (lw_S q1030 q1031 q28 q1032) (by decide +kernel) rfl ⟨Nat.le_of_ble_eq_true rfl, Nat.le_of_ble_eq_true rfl⟩ hl.1 rfl (Nat.le_of_ble_eq_true rfl) dX3_bitsOf_11 ⟨Nat.le_of_ble_eq_true rfl, Nat.le_of_ble_eq_true rfl⟩ ?_
    refine lv_topi (fun v11 e11 => ?_)
    refine lv_if_eq (tgt := 23) hx hb dX3_bitsOf_14 (by decide) (fun c14 => ?_) (fun c14 => ?_)
    · refine lv_lconst (v := 0) hx hb dX3_bitsOf_23 (by decide) ?_
      have hsg : (0 : Int64) = m_sg d0 := below_sg.1 (by rw [← e11]; exact c14)
      refine lv_lstore_n (lv' := [(2, .long 0), (0, .double d0)]) hx hb dX3_bitsOf_24 rfl hl (by decide) rfl (fun ls hl => ?_)
      refine lv_dload_n hx hb dX3_bitsOf_25 rfl (lv_at hl 1 rfl) ?_
      refine lv_dconst0 hx hb dX3_bitsOf_26 ?_
      refine lv_dcmp hx hb dX3_bitsOf_27 ?_
      refine lv_topi (fun v27 e27 => ?_)
      refine lv_if_ge (tgt := 36) hx hb dX3_bitsOf_28 (by decide) (fun c28 => ?_) (fun c28 => ?_)
      · refine lv_dload_n hx hb dX3_bitsOf_36 rfl (lv_at hl 1 rfl) ?_
        have hab : d0.toNat = d0.toNat % 2 ^ 63 ∨ d0.toNat % 2 ^ 63 = 0 := abs_b hn (fun q => absurd (i0_ge c28) (by rw [e27]; have := i0_lt q; omega))
        have hmd : d0.toNat % 2 ^ 63 = d0.toNat % 2 ^ 63 := by rfl
        refine lv_dstore (lv' := [(4, .double d0), (2, .long 0), (0, .double d0)]) hx hb dX3_bitsOf_37 hl (by decide) rfl (fun ls hl => ?_)
        refine lv_dload hx hb dX3_bitsOf_39 (lv_at hl 0 rfl) ?_
        refine lv_dconst0 hx hb dX3_bitsOf_41 ?_
        refine lv_dcmp hx hb dX3_bitsOf_42 ?_
        refine lv_topi (fun v42 e42 => ?_)
        refine lv_if_ne (tgt := 48) hx hb dX3_bitsOf_43 (by decide) (fun c43 => ?_) (fun c43 => ?_)
        · have hnz : d0.toNat % 2 ^ 63 ≠ 0 := by
            intro q
            have h1 : d0 = 0 ∨ d0 = 9223372036854775808 := by rcases Nat.lt_or_ge d0.toNat (2 ^ 63) with r | r; exact Or.inl (UInt64.toNat_inj.mp (show d0.toNat = 0 by omega)); exact Or.inr (UInt64.toNat_inj.mp (show d0.toNat = 9223372036854775808 by have := d0.toNat_lt; omega))
            rcases h1 with h1 | h1 <;> (rw [e42, h1] at c43; exact c43 (by decide +kernel))
          have hv : d0.toNat = d0.toNat % 2 ^ 63 := by omega
          have hlim := num64.mp hn
          refine lv_dload hx hb dX3_bitsOf_48 (lv_at hl 0 rfl) ?_
          refine lv_ldc2d (v := 9218868437227405312) hx hb hown (hts _ q1034) dX3_bitsOf_50 ?_
          refine lv_dcmp hx hb dX3_bitsOf_53 ?_
          refine lv_topi (fun v53 e53 => ?_)
          refine lv_if_ne (tgt := 63) hx hb dX3_bitsOf_54 (by decide) (fun c54 => ?_) (fun c54 => ?_)
          · have hni : d0.toNat % 2 ^ 63 ≠ 9218868437227405312 := fun q => c54 (by rw [e53]; exact (mag_lt_g hv (w := 9218868437227405312) rfl hlim (by decide)).2.1.mpr q)
            refine lv_dload hx hb dX3_bitsOf_63 (lv_at hl 0 rfl) ?_
            refine lv_sipush (v := -1022) hx hb dX3_bitsOf_65 (by decide) ?_
            refine pf_S 1 hx hb hml hown hts (As := [.int (-1022)]) (met_X3_power l (-1022) (by decide) (by decide)) (lw_S q1036 q1037 q28 q1038) (by decide +kernel) rfl ⟨Nat.le_of_ble_eq_true rfl, Nat.le_of_ble_eq_true rfl⟩ hl.1 rfl (Nat.le_of_ble_eq_true rfl) dX3_bitsOf_68 ⟨Nat.le_of_ble_eq_true rfl, Nat.le_of_ble_eq_true rfl⟩ ?_
            refine lv_topd (fun v68 e68 => ?_)
            refine lv_dcmp hx hb dX3_bitsOf_71 ?_
            refine lv_topi (fun v71 e71 => ?_)
            have hpw : v68.toNat = 2 ^ 52 := by rw [e68, pw_nat (by decide) (by decide)]; decide
            have hcm := mag_lt_g hv hpw hlim (by decide)
            rw [← e71] at hcm
            refine lv_if_ge (tgt := 94) hx hb dX3_bitsOf_72 (by decide) (fun c72 => ?_) (fun c72 => ?_)
            · have hge : 2 ^ 52 ≤ d0.toNat % 2 ^ 63 := by have := hcm.2.2.2.mp c72; omega
              obtain ⟨C, Q, hd, hC1, hC2, hQ1, hQ2, hn9⟩ := mag_norm hv (by omega) (by omega)
              have loop2 : ∀ (j9 : Nat) (ev : Int32) (v : UInt64) (x : Int) (ls : Array Slot), (-x).toNat < j9 → ev.toInt = Q - x → -1074 ≤ x → x ≤ 0 → Dy64 v false C x → lv_has ls 7 [(6, .int ev), (4, .double v), (2, .long 0)] → pW yX3_bitsOf cX3_bitsOf 7 (some .long) 1 (.long (m_bits d0)) p l e s m args below meth c (F0 m 120 ls []) := by
                intro j9
                induction j9 with
                | zero =>
                  intro ev v x ls h9
                  exact absurd h9 (Nat.not_lt_zero _)
                | succ j9 ih =>
                  intro ev v x ls hj9 he hx1 hx2 hd hl
                  refine lv_dload hx hb dX3_bitsOf_120 (lv_at hl 1 rfl) ?_
                  refine lv_ldc2d (v := 4841369599423283200) hx hb hown (hts _ q1051) dX3_bitsOf_122 ?_
                  refine lv_dcmp hx hb dX3_bitsOf_125 ?_
                  refine lv_topi (fun v125 e125 => ?_)
                  refine lv_if_ge (tgt := 143) hx hb dX3_bitsOf_126 (by decide) (fun c126 => ?_) (fun c126 => ?_)
                  · have hx0 : x = 0 := by rw [e125, pw_52] at c126; have := (cond_lo hd hC1 hC2 (by omega) (by decide) (by decide)).mp c126; omega
                    rw [hx0] at hd he
                    have hn0 := hn9
                    refine lv_lload_n hx hb dX3_bitsOf_143 rfl (lv_at hl 2 rfl) ?_
                    refine lv_iload hx hb dX3_bitsOf_144 (lv_at hl 0 rfl) ?_
                    refine lv_sipush (v := 1075) hx hb dX3_bitsOf_146 (by decide) ?_
                    refine lv_iadd hx hb dX3_bitsOf_149 ?_
                    refine lv_topi (fun v149 e149 => ?_)
                    refine lv_i2l hx hb dX3_bitsOf_150 rfl ?_
                    refine lv_topl (fun v150 e150 => ?_)
                    refine lv_bipush (v := 52) hx hb dX3_bitsOf_151 (by decide) ?_
                    refine lv_lshl hx hb dX3_bitsOf_153 rfl ?_
                    refine lv_topl (fun v153 e153 => ?_)
                    refine lv_lor hx hb dX3_bitsOf_154 ?_
                    refine lv_topl (fun v154 e154 => ?_)
                    refine lv_dload hx hb dX3_bitsOf_155 (lv_at hl 1 rfl) ?_
                    refine lv_d2l hx hb dX3_bitsOf_157 ?_
                    refine lv_topl (fun v157 e157 => ?_)
                    refine lv_ldc2 (v := 4503599627370495) hx hb hown (hts _ q1052) dX3_bitsOf_158 ?_
                    refine lv_land hx hb dX3_bitsOf_161 ?_
                    refine lv_topl (fun v161 e161 => ?_)
                    refine lv_lor hx hb dX3_bitsOf_162 ?_
                    refine lv_topl (fun v162 e162 => ?_)
                    exact pf_lret hx hb hr hlk dX3_bitsOf_163 (by rw [e162, e154, hsg, e153, e150, e149, e161, e157, d2l_dy hd (by omega)]; exact put64 hn hC1 hC2 hQ1 hQ2 hn0 (by omega))
                  · have hxx : x < 0 := by rw [e125, pw_52] at c126; have := mt (cond_lo hd hC1 hC2 (by omega) (by decide) (by decide)).mpr c126; omega
                    refine lv_dload hx hb dX3_bitsOf_129 (lv_at hl 1 rfl) ?_
                    refine lv_ldc2d (v := 4611686018427387904) hx hb hown (hts _ q1040) dX3_bitsOf_131 ?_
                    refine lv_dmul hx hb dX3_bitsOf_134 (by rw [pw_1]; exact dy_vf64 (dy_shift hd (by omega) (by omega) (by decide) (by decide) rfl (by omega) (by omega))) ?_
                    refine lv_topd (fun v134 e134 => ?_)
                    refine lv_dstore (lv' := [(4, .double v134), (6, .int ev), (2, .long 0)]) hx hb dX3_bitsOf_135 hl (by decide) rfl (fun ls hl => ?_)
                    obtain ⟨v137, e137⟩ : ∃ y : Int32, y = ev + (-1) := ⟨_, rfl⟩
                    refine lv_iinc (v := v137) (lv' := [(6, .int v137), (4, .double v134), (2, .long 0)]) hx hb dX3_bitsOf_137 hl (k := 1) rfl (by rw [e137]; rfl) (by decide) rfl (fun ls hl => ?_)
                    refine lv_goto (tgt := 120) hx hb dX3_bitsOf_140 (by decide) ?_
                    have hxx : x < 0 := by rw [e125, pw_52] at c126; have := mt (cond_lo hd hC1 hC2 (by omega) (by decide) (by decide)).mpr c126; omega
                    exact ih v137 v134 (x + 1) ls (by omega) (by rw [e137, Int32.toInt_add, he, show (-1 : Int32).toInt = -1 from rfl, Int.bmod_eq_of_le (by omega) (by omega)]; omega) (by omega) (by omega) (by rw [e134, pw_1]; exact dy_shift hd (by omega) (by omega) (by decide) (by decide) rfl (by omega) (by omega)) (lv_sub hl [0, 1, 2] rfl)
              have loop1 : ∀ (j9 : Nat) (ev : Int32) (v : UInt64) (x : Int) (ls : Array Slot), x.toNat < j9 → ev.toInt = Q - x → -1074 ≤ x → x ≤ Q → Dy64 v false C x → lv_has ls 7 [(6, .int ev), (4, .double v), (2, .long 0)] → pW yX3_bitsOf cX3_bitsOf 7 (some .long) 1 (.long (m_bits d0)) p l e s m args below meth c (F0 m 97 ls []) := by
                intro j9
                induction j9 with
                | zero =>
                  intro ev v x ls h9
                  exact absurd h9 (Nat.not_lt_zero _)
                | succ j9 ih =>
                  intro ev v x ls hj9 he hx1 hx2 hd hl
                  refine lv_dload hx hb dX3_bitsOf_97 (lv_at hl 1 rfl) ?_
                  refine lv_ldc2d (v := 4845873199050653696) hx hb hown (hts _ q1050) dX3_bitsOf_99 ?_
                  refine lv_dcmp hx hb dX3_bitsOf_102 ?_
                  refine lv_topi (fun v102 e102 => ?_)
                  refine lv_if_lt (tgt := 120) hx hb dX3_bitsOf_103 (by decide) (fun c103 => ?_) (fun c103 => ?_)
                  · have hxx : x < 1 := by rw [e102, pw_53] at c103; exact (cond_hi (P := 53) hd (by decide) hC1 hC2 (by omega) (by decide) (by decide)).mp c103
                    exact loop2 _ ev v x ls (Nat.lt_succ_self _) he (by omega) (by omega) hd (lv_sub hl [0, 1, 2] rfl)
                  · have hxx : 1 ≤ x := by rw [e102, pw_53] at c103; have := mt (cond_hi (P := 53) hd (by decide) hC1 hC2 (by omega) (by decide) (by decide)).mpr c103; omega
                    refine lv_dload hx hb dX3_bitsOf_106 (lv_at hl 1 rfl) ?_
                    refine lv_ldc2d (v := 4602678819172646912) hx hb hown (hts _ q1039) dX3_bitsOf_108 ?_
                    refine lv_dmul hx hb dX3_bitsOf_111 (by rw [pw_m1]; exact dy_vf64 (dy_shift hd (by omega) (by omega) (by decide) (by decide) rfl (by omega) (by omega))) ?_
                    refine lv_topd (fun v111 e111 => ?_)
                    refine lv_dstore (lv' := [(4, .double v111), (6, .int ev), (2, .long 0)]) hx hb dX3_bitsOf_112 hl (by decide) rfl (fun ls hl => ?_)
                    obtain ⟨v114, e114⟩ : ∃ y : Int32, y = ev + 1 := ⟨_, rfl⟩
                    refine lv_iinc (v := v114) (lv' := [(6, .int v114), (4, .double v111), (2, .long 0)]) hx hb dX3_bitsOf_114 hl (k := 1) rfl (by rw [e114]; rfl) (by decide) rfl (fun ls hl => ?_)
                    refine lv_goto (tgt := 97) hx hb dX3_bitsOf_117 (by decide) ?_
                    exact ih v114 v111 (x - 1) ls (by omega) (by rw [e114, Int32.toInt_add, he, show (1 : Int32).toInt = 1 from rfl, Int.bmod_eq_of_le (by omega) (by omega)]; omega) (by omega) (by omega) (by rw [e111, pw_m1]; exact dy_shift hd (by omega) (by omega) (by decide) (by decide) rfl (by omega) (by omega)) (lv_sub hl [0, 1, 2] rfl)
              refine lv_iconst (v := 0) hx hb dX3_bitsOf_94 (by decide) ?_
              refine lv_istore (lv' := [(6, .int 0), (4, .double d0), (2, .long 0), (0, .double d0)]) hx hb dX3_bitsOf_95 hl (by decide) rfl (fun ls hl => ?_)
              exact loop1 _ 0 d0 Q ls (Nat.lt_succ_self _) (by rw [Int.sub_self]; rfl) (by omega) (Int.le_refl _) hd (lv_sub hl [0, 1, 2] rfl)
            · have hl52 : d0.toNat % 2 ^ 63 < 2 ^ 52 := by have := hcm.2.2.2; have h2 := mt this.mpr c72; omega
              have hsub := mag_sub hv hl52
              have hs1 := dy_shift (k := 1000) (g := -74) hsub (by omega) (by decide) (by decide) (by decide) (by decide) (by decide) (by decide)
              have hs2 := dy_shift (k := 74) (g := 0) hs1 (by omega) (by decide) (by decide) (by decide) (by decide) (by decide) (by decide)
              refine lv_lload_n hx hb dX3_bitsOf_75 rfl (lv_at hl 1 rfl) ?_
              refine lv_dload hx hb dX3_bitsOf_76 (lv_at hl 0 rfl) ?_
              refine lv_sipush (v := 1000) hx hb dX3_bitsOf_78 (by decide) ?_
              refine pf_S 1 hx hb hml hown hts (As := [.int 1000]) (met_X3_power l 1000 (by decide) (by decide)) (lw_S q1036 q1037 q28 q1038) (by decide +kernel) rfl ⟨Nat.le_of_ble_eq_true rfl, Nat.le_of_ble_eq_true rfl⟩ hl.1 rfl (Nat.le_of_ble_eq_true rfl) dX3_bitsOf_81 ⟨Nat.le_of_ble_eq_true rfl, Nat.le_of_ble_eq_true rfl⟩ ?_
              refine lv_topd (fun v81 e81 => ?_)
              refine lv_dmul hx hb dX3_bitsOf_84 (by rw [e81]; exact dy_vf64 hs1) ?_
              refine lv_topd (fun v84 e84 => ?_)
              refine lv_bipush (v := 74) hx hb dX3_bitsOf_85 (by decide) ?_
              refine pf_S 1 hx hb hml hown hts (As := [.int 74]) (met_X3_power l 74 (by decide) (by decide)) (lw_S q1036 q1037 q28 q1038) (by decide +kernel) rfl ⟨Nat.le_of_ble_eq_true rfl, Nat.le_of_ble_eq_true rfl⟩ hl.1 rfl (Nat.le_of_ble_eq_true rfl) dX3_bitsOf_87 ⟨Nat.le_of_ble_eq_true rfl, Nat.le_of_ble_eq_true rfl⟩ ?_
              refine lv_topd (fun v87 e87 => ?_)
              refine lv_dmul hx hb dX3_bitsOf_90 (by rw [e84, e81, e87]; exact dy_vf64 hs2) ?_
              refine lv_topd (fun v90 e90 => ?_)
              refine lv_d2l hx hb dX3_bitsOf_91 ?_
              refine lv_topl (fun v91 e91 => ?_)
              refine lv_lor hx hb dX3_bitsOf_92 ?_
              refine lv_topl (fun v92 e92 => ?_)
              exact pf_lret hx hb hr hlk dX3_bitsOf_93 (by rw [e92, hsg, e91, e90, e84, e81, e87, show (1000 : Int32).toInt = 1000 from rfl, show (74 : Int32).toInt = 74 from rfl, d2l_dy hs2 (by omega)]; exact sg_or (i64_ofNat (by omega)) hn)
          · refine lv_lload_n hx hb dX3_bitsOf_57 rfl (lv_at hl 1 rfl) ?_
            refine lv_ldc2 (v := 9218868437227405312) hx hb hown (hts _ q1049) dX3_bitsOf_58 ?_
            refine lv_lor hx hb dX3_bitsOf_61 ?_
            refine lv_topl (fun v61 e61 => ?_)
            exact pf_lret hx hb hr hlk dX3_bitsOf_62 (by have h9 := (mag_lt_g hv (w := (9218868437227405312 : UInt64)) rfl hlim (by decide)).2.1.mp (by rw [← e53]; exact c54); rw [e61, hsg]; exact sg_or (by rw [h9]; rfl) hn)
        · refine lv_lload_n hx hb dX3_bitsOf_46 rfl (lv_at hl 1 rfl) ?_
          exact pf_lret hx hb hr hlk dX3_bitsOf_47 (by rw [hsg]; rcases zero_or (by rw [← e42]; exact c43) with q | q <;> (refine zero_bits ?_; rw [← hmd, q]; rfl))
      · refine lv_dload_n hx hb dX3_bitsOf_31 rfl (lv_at hl 1 rfl) ?_
        refine lv_dneg hx hb dX3_bitsOf_32 ?_
        refine lv_topd (fun v32 e32 => ?_)
        refine lv_goto (tgt := 37) hx hb dX3_bitsOf_33 (by decide) ?_
        have hab : v32.toNat = d0.toNat % 2 ^ 63 ∨ d0.toNat % 2 ^ 63 = 0 := Or.inl (by rw [e32]; exact abs_a (Int32.lt_iff_toInt_lt.mpr (by rw [← e27]; exact i0_nge c28)))
        have hmd : v32.toNat % 2 ^ 63 = d0.toNat % 2 ^ 63 := by have := i0_nge c28; have h2 := abs_a (d := d0) (Int32.lt_iff_toInt_lt.mpr (by rw [← e27]; exact this)); rw [← e32] at h2; omega
        refine lv_dstore (lv' := [(4, .double v32), (2, .long 0), (0, .double d0)]) hx hb dX3_bitsOf_37 hl (by decide) rfl (fun ls hl => ?_)
        refine lv_dload hx hb dX3_bitsOf_39 (lv_at hl 0 rfl) ?_
        refine lv_dconst0 hx hb dX3_bitsOf_41 ?_
        refine lv_dcmp hx hb dX3_bitsOf_42 ?_
        refine lv_topi (fun v42 e42 => ?_)
        refine lv_if_ne (tgt := 48) hx hb dX3_bitsOf_43 (by decide) (fun c43 => ?_) (fun c43 => ?_)
        · have hnz : d0.toNat % 2 ^ 63 ≠ 0 := by
            intro q
            have h1 : v32 = 0 ∨ v32 = 9223372036854775808 := by rcases Nat.lt_or_ge v32.toNat (2 ^ 63) with r | r; exact Or.inl (UInt64.toNat_inj.mp (show v32.toNat = 0 by omega)); exact Or.inr (UInt64.toNat_inj.mp (show v32.toNat = 9223372036854775808 by have := v32.toNat_lt; omega))
            rcases h1 with h1 | h1 <;> (rw [e42, h1] at c43; exact c43 (by decide +kernel))
          have hv : v32.toNat = d0.toNat % 2 ^ 63 := by omega
          have hlim := num64.mp hn
          refine lv_dload hx hb dX3_bitsOf_48 (lv_at hl 0 rfl) ?_
          refine lv_ldc2d (v := 9218868437227405312) hx hb hown (hts _ q1034) dX3_bitsOf_50 ?_
          refine lv_dcmp hx hb dX3_bitsOf_53 ?_
          refine lv_topi (fun v53 e53 => ?_)
          refine lv_if_ne (tgt := 63) hx hb dX3_bitsOf_54 (by decide) (fun c54 => ?_) (fun c54 => ?_)
          · have hni : d0.toNat % 2 ^ 63 ≠ 9218868437227405312 := fun q => c54 (by rw [e53]; exact (mag_lt_g hv (w := 9218868437227405312) rfl hlim (by decide)).2.1.mpr q)
            refine lv_dload hx hb dX3_bitsOf_63 (lv_at hl 0 rfl) ?_
            refine lv_sipush (v := -1022) hx hb dX3_bitsOf_65 (by decide) ?_
            refine pf_S 1 hx hb hml hown hts (As := [.int (-1022)]) (met_X3_power l (-1022) (by decide) (by decide)) (lw_S q1036 q1037 q28 q1038) (by decide +kernel) rfl ⟨Nat.le_of_ble_eq_true rfl, Nat.le_of_ble_eq_true rfl⟩ hl.1 rfl (Nat.le_of_ble_eq_true rfl) dX3_bitsOf_68 ⟨Nat.le_of_ble_eq_true rfl, Nat.le_of_ble_eq_true rfl⟩ ?_
            refine lv_topd (fun v68 e68 => ?_)
            refine lv_dcmp hx hb dX3_bitsOf_71 ?_
            refine lv_topi (fun v71 e71 => ?_)
            have hpw : v68.toNat = 2 ^ 52 := by rw [e68, pw_nat (by decide) (by decide)]; decide
            have hcm := mag_lt_g hv hpw hlim (by decide)
            rw [← e71] at hcm
            refine lv_if_ge (tgt := 94) hx hb dX3_bitsOf_72 (by decide) (fun c72 => ?_) (fun c72 => ?_)
            · have hge : 2 ^ 52 ≤ d0.toNat % 2 ^ 63 := by have := hcm.2.2.2.mp c72; omega
              obtain ⟨C, Q, hd, hC1, hC2, hQ1, hQ2, hn9⟩ := mag_norm hv (by omega) (by omega)
              have loop2 : ∀ (j9 : Nat) (ev : Int32) (v : UInt64) (x : Int) (ls : Array Slot), (-x).toNat < j9 → ev.toInt = Q - x → -1074 ≤ x → x ≤ 0 → Dy64 v false C x → lv_has ls 7 [(6, .int ev), (4, .double v), (2, .long 0)] → pW yX3_bitsOf cX3_bitsOf 7 (some .long) 1 (.long (m_bits d0)) p l e s m args below meth c (F0 m 120 ls []) := by
                intro j9
                induction j9 with
                | zero =>
                  intro ev v x ls h9
                  exact absurd h9 (Nat.not_lt_zero _)
                | succ j9 ih =>
                  intro ev v x ls hj9 he hx1 hx2 hd hl
                  refine lv_dload hx hb dX3_bitsOf_120 (lv_at hl 1 rfl) ?_
                  refine lv_ldc2d (v := 4841369599423283200) hx hb hown (hts _ q1051) dX3_bitsOf_122 ?_
                  refine lv_dcmp hx hb dX3_bitsOf_125 ?_
                  refine lv_topi (fun v125 e125 => ?_)
                  refine lv_if_ge (tgt := 143) hx hb dX3_bitsOf_126 (by decide) (fun c126 => ?_) (fun c126 => ?_)
                  · have hx0 : x = 0 := by rw [e125, pw_52] at c126; have := (cond_lo hd hC1 hC2 (by omega) (by decide) (by decide)).mp c126; omega
                    rw [hx0] at hd he
                    have hn0 := hn9
                    refine lv_lload_n hx hb dX3_bitsOf_143 rfl (lv_at hl 2 rfl) ?_
                    refine lv_iload hx hb dX3_bitsOf_144 (lv_at hl 0 rfl) ?_
                    refine lv_sipush (v := 1075) hx hb dX3_bitsOf_146 (by decide) ?_
                    refine lv_iadd hx hb dX3_bitsOf_149 ?_
                    refine lv_topi (fun v149 e149 => ?_)
                    refine lv_i2l hx hb dX3_bitsOf_150 rfl ?_
                    refine lv_topl (fun v150 e150 => ?_)
                    refine lv_bipush (v := 52) hx hb dX3_bitsOf_151 (by decide) ?_
                    refine lv_lshl hx hb dX3_bitsOf_153 rfl ?_
                    refine lv_topl (fun v153 e153 => ?_)
                    refine lv_lor hx hb dX3_bitsOf_154 ?_
                    refine lv_topl (fun v154 e154 => ?_)
                    refine lv_dload hx hb dX3_bitsOf_155 (lv_at hl 1 rfl) ?_
                    refine lv_d2l hx hb dX3_bitsOf_157 ?_
                    refine lv_topl (fun v157 e157 => ?_)
                    refine lv_ldc2 (v := 4503599627370495) hx hb hown (hts _ q1052) dX3_bitsOf_158 ?_
                    refine lv_land hx hb dX3_bitsOf_161 ?_
                    refine lv_topl (fun v161 e161 => ?_)
                    refine lv_lor hx hb dX3_bitsOf_162 ?_
                    refine lv_topl (fun v162 e162 => ?_)
                    exact pf_lret hx hb hr hlk dX3_bitsOf_163 (by rw [e162, e154, hsg, e153, e150, e149, e161, e157, d2l_dy hd (by omega)]; exact put64 hn hC1 hC2 hQ1 hQ2 hn0 (by omega))
                  · have hxx : x < 0 := by rw [e125, pw_52] at c126; have := mt (cond_lo hd hC1 hC2 (by omega) (by decide) (by decide)).mpr c126; omega
                    refine lv_dload hx hb dX3_bitsOf_129 (lv_at hl 1 rfl) ?_
                    refine lv_ldc2d (v := 4611686018427387904) hx hb hown (hts _ q1040) dX3_bitsOf_131 ?_
                    refine lv_dmul hx hb dX3_bitsOf_134 (by rw [pw_1]; exact dy_vf64 (dy_shift hd (by omega) (by omega) (by decide) (by decide) rfl (by omega) (by omega))) ?_
                    refine lv_topd (fun v134 e134 => ?_)
                    refine lv_dstore (lv' := [(4, .double v134), (6, .int ev), (2, .long 0)]) hx hb dX3_bitsOf_135 hl (by decide) rfl (fun ls hl => ?_)
                    obtain ⟨v137, e137⟩ : ∃ y : Int32, y = ev + (-1) := ⟨_, rfl⟩
                    refine lv_iinc (v := v137) (lv' := [(6, .int v137), (4, .double v134), (2, .long 0)]) hx hb dX3_bitsOf_137 hl (k := 1) rfl (by rw [e137]; rfl) (by decide) rfl (fun ls hl => ?_)
                    refine lv_goto (tgt := 120) hx hb dX3_bitsOf_140 (by decide) ?_
                    have hxx : x < 0 := by rw [e125, pw_52] at c126; have := mt (cond_lo hd hC1 hC2 (by omega) (by decide) (by decide)).mpr c126; omega
                    exact ih v137 v134 (x + 1) ls (by omega) (by rw [e137, Int32.toInt_add, he, show (-1 : Int32).toInt = -1 from rfl, Int.bmod_eq_of_le (by omega) (by omega)]; omega) (by omega) (by omega) (by rw [e134, pw_1]; exact dy_shift hd (by omega) (by omega) (by decide) (by decide) rfl (by omega) (by omega)) (lv_sub hl [0, 1, 2] rfl)
              have loop1 : ∀ (j9 : Nat) (ev : Int32) (v : UInt64) (x : Int) (ls : Array Slot), x.toNat < j9 → ev.toInt = Q - x → -1074 ≤ x → x ≤ Q → Dy64 v false C x → lv_has ls 7 [(6, .int ev), (4, .double v), (2, .long 0)] → pW yX3_bitsOf cX3_bitsOf 7 (some .long) 1 (.long (m_bits d0)) p l e s m args below meth c (F0 m 97 ls []) := by
                intro j9
                induction j9 with
                | zero =>
                  intro ev v x ls h9
                  exact absurd h9 (Nat.not_lt_zero _)
                | succ j9 ih =>
                  intro ev v x ls hj9 he hx1 hx2 hd hl
                  refine lv_dload hx hb dX3_bitsOf_97 (lv_at hl 1 rfl) ?_
                  refine lv_ldc2d (v := 4845873199050653696) hx hb hown (hts _ q1050) dX3_bitsOf_99 ?_
                  refine lv_dcmp hx hb dX3_bitsOf_102 ?_
                  refine lv_topi (fun v102 e102 => ?_)
                  refine lv_if_lt (tgt := 120) hx hb dX3_bitsOf_103 (by decide) (fun c103 => ?_) (fun c103 => ?_)
                  · have hxx : x < 1 := by rw [e102, pw_53] at c103; exact (cond_hi (P := 53) hd (by decide) hC1 hC2 (by omega) (by decide) (by decide)).mp c103
                    exact loop2 _ ev v x ls (Nat.lt_succ_self _) he (by omega) (by omega) hd (lv_sub hl [0, 1, 2] rfl)
                  · have hxx : 1 ≤ x := by rw [e102, pw_53] at c103; have := mt (cond_hi (P := 53) hd (by decide) hC1 hC2 (by omega) (by decide) (by decide)).mpr c103; omega
                    refine lv_dload hx hb dX3_bitsOf_106 (lv_at hl 1 rfl) ?_
                    refine lv_ldc2d (v := 4602678819172646912) hx hb hown (hts _ q1039) dX3_bitsOf_108 ?_
                    refine lv_dmul hx hb dX3_bitsOf_111 (by rw [pw_m1]; exact dy_vf64 (dy_shift hd (by omega) (by omega) (by decide) (by decide) rfl (by omega) (by omega))) ?_
                    refine lv_topd (fun v111 e111 => ?_)
                    refine lv_dstore (lv' := [(4, .double v111), (6, .int ev), (2, .long 0)]) hx hb dX3_bitsOf_112 hl (by decide) rfl (fun ls hl => ?_)
                    obtain ⟨v114, e114⟩ : ∃ y : Int32, y = ev + 1 := ⟨_, rfl⟩
                    refine lv_iinc (v := v114) (lv' := [(6, .int v114), (4, .double v111), (2, .long 0)]) hx hb dX3_bitsOf_114 hl (k := 1) rfl (by rw [e114]; rfl) (by decide) rfl (fun ls hl => ?_)
                    refine lv_goto (tgt := 97) hx hb dX3_bitsOf_117 (by decide) ?_
                    exact ih v114 v111 (x - 1) ls (by omega) (by rw [e114, Int32.toInt_add, he, show (1 : Int32).toInt = 1 from rfl, Int.bmod_eq_of_le (by omega) (by omega)]; omega) (by omega) (by omega) (by rw [e111, pw_m1]; exact dy_shift hd (by omega) (by omega) (by decide) (by decide) rfl (by omega) (by omega)) (lv_sub hl [0, 1, 2] rfl)
              refine lv_iconst (v := 0) hx hb dX3_bitsOf_94 (by decide) ?_
              refine lv_istore (lv' := [(6, .int 0), (4, .double v32), (2, .long 0), (0, .double d0)]) hx hb dX3_bitsOf_95 hl (by decide) rfl (fun ls hl => ?_)
              exact loop1 _ 0 v32 Q ls (Nat.lt_succ_self _) (by rw [Int.sub_self]; rfl) (by omega) (Int.le_refl _) hd (lv_sub hl [0, 1, 2] rfl)
            · have hl52 : d0.toNat % 2 ^ 63 < 2 ^ 52 := by have := hcm.2.2.2; have h2 := mt this.mpr c72; omega
              have hsub := mag_sub hv hl52
              have hs1 := dy_shift (k := 1000) (g := -74) hsub (by omega) (by decide) (by decide) (by decide) (by decide) (by decide) (by decide)
              have hs2 := dy_shift (k := 74) (g := 0) hs1 (by omega) (by decide) (by decide) (by decide) (by decide) (by decide) (by decide)
              refine lv_lload_n hx hb dX3_bitsOf_75 rfl (lv_at hl 1 rfl) ?_
              refine lv_dload hx hb dX3_bitsOf_76 (lv_at hl 0 rfl) ?_
              refine lv_sipush (v := 1000) hx hb dX3_bitsOf_78 (by decide) ?_
              refine pf_S 1 hx hb hml hown hts (As := [.int 1000]) (met_X3_power l 1000 (by decide) (by decide)) (lw_S q1036 q1037 q28 q1038) (by decide +kernel) rfl ⟨Nat.le_of_ble_eq_true rfl, Nat.le_of_ble_eq_true rfl⟩ hl.1 rfl (Nat.le_of_ble_eq_true rfl) dX3_bitsOf_81 ⟨Nat.le_of_ble_eq_true rfl, Nat.le_of_ble_eq_true rfl⟩ ?_
              refine lv_topd (fun v81 e81 => ?_)
              refine lv_dmul hx hb dX3_bitsOf_84 (by rw [e81]; exact dy_vf64 hs1) ?_
              refine lv_topd (fun v84 e84 => ?_)
              refine lv_bipush (v := 74) hx hb dX3_bitsOf_85 (by decide) ?_
              refine pf_S 1 hx hb hml hown hts (As := [.int 74]) (met_X3_power l 74 (by decide) (by decide)) (lw_S q1036 q1037 q28 q1038) (by decide +kernel) rfl ⟨Nat.le_of_ble_eq_true rfl, Nat.le_of_ble_eq_true rfl⟩ hl.1 rfl (Nat.le_of_ble_eq_true rfl) dX3_bitsOf_87 ⟨Nat.le_of_ble_eq_true rfl, Nat.le_of_ble_eq_true rfl⟩ ?_
              refine lv_topd (fun v87 e87 => ?_)
              refine lv_dmul hx hb dX3_bitsOf_90 (by rw [e84, e81, e87]; exact dy_vf64 hs2) ?_
              refine lv_topd (fun v90 e90 => ?_)
              refine lv_d2l hx hb dX3_bitsOf_91 ?_
              refine lv_topl (fun v91 e91 => ?_)
              refine lv_lor hx hb dX3_bitsOf_92 ?_
              refine lv_topl (fun v92 e92 => ?_)
              exact pf_lret hx hb hr hlk dX3_bitsOf_93 (by rw [e92, hsg, e91, e90, e84, e81, e87, show (1000 : Int32).toInt = 1000 from rfl, show (74 : Int32).toInt = 74 from rfl, d2l_dy hs2 (by omega)]; exact sg_or (i64_ofNat (by omega)) hn)
          · refine lv_lload_n hx hb dX3_bitsOf_57 rfl (lv_at hl 1 rfl) ?_
            refine lv_ldc2 (v := 9218868437227405312) hx hb hown (hts _ q1049) dX3_bitsOf_58 ?_
            refine lv_lor hx hb dX3_bitsOf_61 ?_
            refine lv_topl (fun v61 e61 => ?_)
            exact pf_lret hx hb hr hlk dX3_bitsOf_62 (by have h9 := (mag_lt_g hv (w := (9218868437227405312 : UInt64)) rfl hlim (by decide)).2.1.mp (by rw [← e53]; exact c54); rw [e61, hsg]; exact sg_or (by rw [h9]; rfl) hn)
        · refine lv_lload_n hx hb dX3_bitsOf_46 rfl (lv_at hl 1 rfl) ?_
          exact pf_lret hx hb hr hlk dX3_bitsOf_47 (by rw [hsg]; rcases zero_or (by rw [← e42]; exact c43) with q | q <;> (refine zero_bits ?_; rw [← hmd, q]; rfl))
    · refine lv_ldc2 (v := (-9223372036854775808)) hx hb hown (hts _ q1048) dX3_bitsOf_17 ?_
      refine lv_goto (tgt := 24) hx hb dX3_bitsOf_20 (by decide) ?_
      have hsg : (-9223372036854775808 : Int64) = m_sg d0 := below_sg.2 (by rw [← e11]; exact c14)
      refine lv_lstore_n (lv' := [(2, .long (-9223372036854775808)), (0, .double d0)]) hx hb dX3_bitsOf_24 rfl hl (by decide) rfl (fun ls hl => ?_)
      refine lv_dload_n hx hb dX3_bitsOf_25 rfl (lv_at hl 1 rfl) ?_
      refine lv_dconst0 hx hb dX3_bitsOf_26 ?_
      refine lv_dcmp hx hb dX3_bitsOf_27 ?_
      refine lv_topi (fun v27 e27 => ?_)
      refine lv_if_ge (tgt := 36) hx hb dX3_bitsOf_28 (by decide) (fun c28 => ?_) (fun c28 => ?_)
      · refine lv_dload_n hx hb dX3_bitsOf_36 rfl (lv_at hl 1 rfl) ?_
        have hab : d0.toNat = d0.toNat % 2 ^ 63 ∨ d0.toNat % 2 ^ 63 = 0 := abs_b hn (fun q => absurd (i0_ge c28) (by rw [e27]; have := i0_lt q; omega))
        have hmd : d0.toNat % 2 ^ 63 = d0.toNat % 2 ^ 63 := by rfl
        refine lv_dstore (lv' := [(4, .double d0), (2, .long (-9223372036854775808)), (0, .double d0)]) hx hb dX3_bitsOf_37 hl (by decide) rfl (fun ls hl => ?_)
        refine lv_dload hx hb dX3_bitsOf_39 (lv_at hl 0 rfl) ?_
        refine lv_dconst0 hx hb dX3_bitsOf_41 ?_
        refine lv_dcmp hx hb dX3_bitsOf_42 ?_
        refine lv_topi (fun v42 e42 => ?_)
        refine lv_if_ne (tgt := 48) hx hb dX3_bitsOf_43 (by decide) (fun c43 => ?_) (fun c43 => ?_)
        · have hnz : d0.toNat % 2 ^ 63 ≠ 0 := by
            intro q
            have h1 : d0 = 0 ∨ d0 = 9223372036854775808 := by rcases Nat.lt_or_ge d0.toNat (2 ^ 63) with r | r; exact Or.inl (UInt64.toNat_inj.mp (show d0.toNat = 0 by omega)); exact Or.inr (UInt64.toNat_inj.mp (show d0.toNat = 9223372036854775808 by have := d0.toNat_lt; omega))
            rcases h1 with h1 | h1 <;> (rw [e42, h1] at c43; exact c43 (by decide +kernel))
          have hv : d0.toNat = d0.toNat % 2 ^ 63 := by omega
          have hlim := num64.mp hn
          refine lv_dload hx hb dX3_bitsOf_48 (lv_at hl 0 rfl) ?_
          refine lv_ldc2d (v := 9218868437227405312) hx hb hown (hts _ q1034) dX3_bitsOf_50 ?_
          refine lv_dcmp hx hb dX3_bitsOf_53 ?_
          refine lv_topi (fun v53 e53 => ?_)
          refine lv_if_ne (tgt := 63) hx hb dX3_bitsOf_54 (by decide) (fun c54 => ?_) (fun c54 => ?_)
          · have hni : d0.toNat % 2 ^ 63 ≠ 9218868437227405312 := fun q => c54 (by rw [e53]; exact (mag_lt_g hv (w := 9218868437227405312) rfl hlim (by decide)).2.1.mpr q)
            refine lv_dload hx hb dX3_bitsOf_63 (lv_at hl 0 rfl) ?_
            refine lv_sipush (v := -1022) hx hb dX3_bitsOf_65 (by decide) ?_
            refine pf_S 1 hx hb hml hown hts (As := [.int (-1022)]) (met_X3_power l (-1022) (by decide) (by decide)) (lw_S q1036 q1037 q28 q1038) (by decide +kernel) rfl ⟨Nat.le_of_ble_eq_true rfl, Nat.le_of_ble_eq_true rfl⟩ hl.1 rfl (Nat.le_of_ble_eq_true rfl) dX3_bitsOf_68 ⟨Nat.le_of_ble_eq_true rfl, Nat.le_of_ble_eq_true rfl⟩ ?_
            refine lv_topd (fun v68 e68 => ?_)
            refine lv_dcmp hx hb dX3_bitsOf_71 ?_
            refine lv_topi (fun v71 e71 => ?_)
            have hpw : v68.toNat = 2 ^ 52 := by rw [e68, pw_nat (by decide) (by decide)]; decide
            have hcm := mag_lt_g hv hpw hlim (by decide)
            rw [← e71] at hcm
            refine lv_if_ge (tgt := 94) hx hb dX3_bitsOf_72 (by decide) (fun c72 => ?_) (fun c72 => ?_)
            · have hge : 2 ^ 52 ≤ d0.toNat % 2 ^ 63 := by have := hcm.2.2.2.mp c72; omega
              obtain ⟨C, Q, hd, hC1, hC2, hQ1, hQ2, hn9⟩ := mag_norm hv (by omega) (by omega)
              have loop2 : ∀ (j9 : Nat) (ev : Int32) (v : UInt64) (x : Int) (ls : Array Slot), (-x).toNat < j9 → ev.toInt = Q - x → -1074 ≤ x → x ≤ 0 → Dy64 v false C x → lv_has ls 7 [(6, .int ev), (4, .double v), (2, .long (-9223372036854775808))] → pW yX3_bitsOf cX3_bitsOf 7 (some .long) 1 (.long (m_bits d0)) p l e s m args below meth c (F0 m 120 ls []) := by
                intro j9
                induction j9 with
                | zero =>
                  intro ev v x ls h9
                  exact absurd h9 (Nat.not_lt_zero _)
                | succ j9 ih =>
                  intro ev v x ls hj9 he hx1 hx2 hd hl
                  refine lv_dload hx hb dX3_bitsOf_120 (lv_at hl 1 rfl) ?_
                  refine lv_ldc2d (v := 4841369599423283200) hx hb hown (hts _ q1051) dX3_bitsOf_122 ?_
                  refine lv_dcmp hx hb dX3_bitsOf_125 ?_
                  refine lv_topi (fun v125 e125 => ?_)
                  refine lv_if_ge (tgt := 143) hx hb dX3_bitsOf_126 (by decide) (fun c126 => ?_) (fun c126 => ?_)
                  · have hx0 : x = 0 := by rw [e125, pw_52] at c126; have := (cond_lo hd hC1 hC2 (by omega) (by decide) (by decide)).mp c126; omega
                    rw [hx0] at hd he
                    have hn0 := hn9
                    refine lv_lload_n hx hb dX3_bitsOf_143 rfl (lv_at hl 2 rfl) ?_
                    refine lv_iload hx hb dX3_bitsOf_144 (lv_at hl 0 rfl) ?_
                    refine lv_sipush (v := 1075) hx hb dX3_bitsOf_146 (by decide) ?_
                    refine lv_iadd hx hb dX3_bitsOf_149 ?_
                    refine lv_topi (fun v149 e149 => ?_)
                    refine lv_i2l hx hb dX3_bitsOf_150 rfl ?_
                    refine lv_topl (fun v150 e150 => ?_)
                    refine lv_bipush (v := 52) hx hb dX3_bitsOf_151 (by decide) ?_
                    refine lv_lshl hx hb dX3_bitsOf_153 rfl ?_
                    refine lv_topl (fun v153 e153 => ?_)
                    refine lv_lor hx hb dX3_bitsOf_154 ?_
                    refine lv_topl (fun v154 e154 => ?_)
                    refine lv_dload hx hb dX3_bitsOf_155 (lv_at hl 1 rfl) ?_
                    refine lv_d2l hx hb dX3_bitsOf_157 ?_
                    refine lv_topl (fun v157 e157 => ?_)
                    refine lv_ldc2 (v := 4503599627370495) hx hb hown (hts _ q1052) dX3_bitsOf_158 ?_
                    refine lv_land hx hb dX3_bitsOf_161 ?_
                    refine lv_topl (fun v161 e161 => ?_)
                    refine lv_lor hx hb dX3_bitsOf_162 ?_
                    refine lv_topl (fun v162 e162 => ?_)
                    exact pf_lret hx hb hr hlk dX3_bitsOf_163 (by rw [e162, e154, hsg, e153, e150, e149, e161, e157, d2l_dy hd (by omega)]; exact put64 hn hC1 hC2 hQ1 hQ2 hn0 (by omega))
                  · have hxx : x < 0 := by rw [e125, pw_52] at c126; have := mt (cond_lo hd hC1 hC2 (by omega) (by decide) (by decide)).mpr c126; omega
                    refine lv_dload hx hb dX3_bitsOf_129 (lv_at hl 1 rfl) ?_
                    refine lv_ldc2d (v := 4611686018427387904) hx hb hown (hts _ q1040) dX3_bitsOf_131 ?_
                    refine lv_dmul hx hb dX3_bitsOf_134 (by rw [pw_1]; exact dy_vf64 (dy_shift hd (by omega) (by omega) (by decide) (by decide) rfl (by omega) (by omega))) ?_
                    refine lv_topd (fun v134 e134 => ?_)
                    refine lv_dstore (lv' := [(4, .double v134), (6, .int ev), (2, .long (-9223372036854775808))]) hx hb dX3_bitsOf_135 hl (by decide) rfl (fun ls hl => ?_)
                    obtain ⟨v137, e137⟩ : ∃ y : Int32, y = ev + (-1) := ⟨_, rfl⟩
                    refine lv_iinc (v := v137) (lv' := [(6, .int v137), (4, .double v134), (2, .long (-9223372036854775808))]) hx hb dX3_bitsOf_137 hl (k := 1) rfl (by rw [e137]; rfl) (by decide) rfl (fun ls hl => ?_)
                    refine lv_goto (tgt := 120) hx hb dX3_bitsOf_140 (by decide) ?_
                    have hxx : x < 0 := by rw [e125, pw_52] at c126; have := mt (cond_lo hd hC1 hC2 (by omega) (by decide) (by decide)).mpr c126; omega
                    exact ih v137 v134 (x + 1) ls (by omega) (by rw [e137, Int32.toInt_add, he, show (-1 : Int32).toInt = -1 from rfl, Int.bmod_eq_of_le (by omega) (by omega)]; omega) (by omega) (by omega) (by rw [e134, pw_1]; exact dy_shift hd (by omega) (by omega) (by decide) (by decide) rfl (by omega) (by omega)) (lv_sub hl [0, 1, 2] rfl)
              have loop1 : ∀ (j9 : Nat) (ev : Int32) (v : UInt64) (x : Int) (ls : Array Slot), x.toNat < j9 → ev.toInt = Q - x → -1074 ≤ x → x ≤ Q → Dy64 v false C x → lv_has ls 7 [(6, .int ev), (4, .double v), (2, .long (-9223372036854775808))] → pW yX3_bitsOf cX3_bitsOf 7 (some .long) 1 (.long (m_bits d0)) p l e s m args below meth c (F0 m 97 ls []) := by
                intro j9
                induction j9 with
                | zero =>
                  intro ev v x ls h9
                  exact absurd h9 (Nat.not_lt_zero _)
                | succ j9 ih =>
                  intro ev v x ls hj9 he hx1 hx2 hd hl
                  refine lv_dload hx hb dX3_bitsOf_97 (lv_at hl 1 rfl) ?_
                  refine lv_ldc2d (v := 4845873199050653696) hx hb hown (hts _ q1050) dX3_bitsOf_99 ?_
                  refine lv_dcmp hx hb dX3_bitsOf_102 ?_
                  refine lv_topi (fun v102 e102 => ?_)
                  refine lv_if_lt (tgt := 120) hx hb dX3_bitsOf_103 (by decide) (fun c103 => ?_) (fun c103 => ?_)
                  · have hxx : x < 1 := by rw [e102, pw_53] at c103; exact (cond_hi (P := 53) hd (by decide) hC1 hC2 (by omega) (by decide) (by decide)).mp c103
                    exact loop2 _ ev v x ls (Nat.lt_succ_self _) he (by omega) (by omega) hd (lv_sub hl [0, 1, 2] rfl)
                  · have hxx : 1 ≤ x := by rw [e102, pw_53] at c103; have := mt (cond_hi (P := 53) hd (by decide) hC1 hC2 (by omega) (by decide) (by decide)).mpr c103; omega
                    refine lv_dload hx hb dX3_bitsOf_106 (lv_at hl 1 rfl) ?_
                    refine lv_ldc2d (v := 4602678819172646912) hx hb hown (hts _ q1039) dX3_bitsOf_108 ?_
                    refine lv_dmul hx hb dX3_bitsOf_111 (by rw [pw_m1]; exact dy_vf64 (dy_shift hd (by omega) (by omega) (by decide) (by decide) rfl (by omega) (by omega))) ?_
                    refine lv_topd (fun v111 e111 => ?_)
                    refine lv_dstore (lv' := [(4, .double v111), (6, .int ev), (2, .long (-9223372036854775808))]) hx hb dX3_bitsOf_112 hl (by decide) rfl (fun ls hl => ?_)
                    obtain ⟨v114, e114⟩ : ∃ y : Int32, y = ev + 1 := ⟨_, rfl⟩
                    refine lv_iinc (v := v114) (lv' := [(6, .int v114), (4, .double v111), (2, .long (-9223372036854775808))]) hx hb dX3_bitsOf_114 hl (k := 1) rfl (by rw [e114]; rfl) (by decide) rfl (fun ls hl => ?_)
                    refine lv_goto (tgt := 97) hx hb dX3_bitsOf_117 (by decide) ?_
                    exact ih v114 v111 (x - 1) ls (by omega) (by rw [e114, Int32.toInt_add, he, show (1 : Int32).toInt = 1 from rfl, Int.bmod_eq_of_le (by omega) (by omega)]; omega) (by omega) (by omega) (by rw [e111, pw_m1]; exact dy_shift hd (by omega) (by omega) (by decide) (by decide) rfl (by omega) (by omega)) (lv_sub hl [0, 1, 2] rfl)
              refine lv_iconst (v := 0) hx hb dX3_bitsOf_94 (by decide) ?_
              refine lv_istore (lv' := [(6, .int 0), (4, .double d0), (2, .long (-9223372036854775808)), (0, .double d0)]) hx hb dX3_bitsOf_95 hl (by decide) rfl (fun ls hl => ?_)
              exact loop1 _ 0 d0 Q ls (Nat.lt_succ_self _) (by rw [Int.sub_self]; rfl) (by omega) (Int.le_refl _) hd (lv_sub hl [0, 1, 2] rfl)
            · have hl52 : d0.toNat % 2 ^ 63 < 2 ^ 52 := by have := hcm.2.2.2; have h2 := mt this.mpr c72; omega
              have hsub := mag_sub hv hl52
              have hs1 := dy_shift (k := 1000) (g := -74) hsub (by omega) (by decide) (by decide) (by decide) (by decide) (by decide) (by decide)
              have hs2 := dy_shift (k := 74) (g := 0) hs1 (by omega) (by decide) (by decide) (by decide) (by decide) (by decide) (by decide)
              refine lv_lload_n hx hb dX3_bitsOf_75 rfl (lv_at hl 1 rfl) ?_
              refine lv_dload hx hb dX3_bitsOf_76 (lv_at hl 0 rfl) ?_
              refine lv_sipush (v := 1000) hx hb dX3_bitsOf_78 (by decide) ?_
              refine pf_S 1 hx hb hml hown hts (As := [.int 1000]) (met_X3_power l 1000 (by decide) (by decide)) (lw_S q1036 q1037 q28 q1038) (by decide +kernel) rfl ⟨Nat.le_of_ble_eq_true rfl, Nat.le_of_ble_eq_true rfl⟩ hl.1 rfl (Nat.le_of_ble_eq_true rfl) dX3_bitsOf_81 ⟨Nat.le_of_ble_eq_true rfl, Nat.le_of_ble_eq_true rfl⟩ ?_
              refine lv_topd (fun v81 e81 => ?_)
              refine lv_dmul hx hb dX3_bitsOf_84 (by rw [e81]; exact dy_vf64 hs1) ?_
              refine lv_topd (fun v84 e84 => ?_)
              refine lv_bipush (v := 74) hx hb dX3_bitsOf_85 (by decide) ?_
              refine pf_S 1 hx hb hml hown hts (As := [.int 74]) (met_X3_power l 74 (by decide) (by decide)) (lw_S q1036 q1037 q28 q1038) (by decide +kernel) rfl ⟨Nat.le_of_ble_eq_true rfl, Nat.le_of_ble_eq_true rfl⟩ hl.1 rfl (Nat.le_of_ble_eq_true rfl) dX3_bitsOf_87 ⟨Nat.le_of_ble_eq_true rfl, Nat.le_of_ble_eq_true rfl⟩ ?_
              refine lv_topd (fun v87 e87 => ?_)
              refine lv_dmul hx hb dX3_bitsOf_90 (by rw [e84, e81, e87]; exact dy_vf64 hs2) ?_
              refine lv_topd (fun v90 e90 => ?_)
              refine lv_d2l hx hb dX3_bitsOf_91 ?_
              refine lv_topl (fun v91 e91 => ?_)
              refine lv_lor hx hb dX3_bitsOf_92 ?_
              refine lv_topl (fun v92 e92 => ?_)
              exact pf_lret hx hb hr hlk dX3_bitsOf_93 (by rw [e92, hsg, e91, e90, e84, e81, e87, show (1000 : Int32).toInt = 1000 from rfl, show (74 : Int32).toInt = 74 from rfl, d2l_dy hs2 (by omega)]; exact sg_or (i64_ofNat (by omega)) hn)
          · refine lv_lload_n hx hb dX3_bitsOf_57 rfl (lv_at hl 1 rfl) ?_
            refine lv_ldc2 (v := 9218868437227405312) hx hb hown (hts _ q1049) dX3_bitsOf_58 ?_
            refine lv_lor hx hb dX3_bitsOf_61 ?_
            refine lv_topl (fun v61 e61 => ?_)
            exact pf_lret hx hb hr hlk dX3_bitsOf_62 (by have h9 := (mag_lt_g hv (w := (9218868437227405312 : UInt64)) rfl hlim (by decide)).2.1.mp (by rw [← e53]; exact c54); rw [e61, hsg]; exact sg_or (by rw [h9]; rfl) hn)
        · refine lv_lload_n hx hb dX3_bitsOf_46 rfl (lv_at hl 1 rfl) ?_
          exact pf_lret hx hb hr hlk dX3_bitsOf_47 (by rw [hsg]; rcases zero_or (by rw [← e42]; exact c43) with q | q <;> (refine zero_bits ?_; rw [← hmd, q]; rfl))
      · refine lv_dload_n hx hb dX3_bitsOf_31 rfl (lv_at hl 1 rfl) ?_
        refine lv_dneg hx hb dX3_bitsOf_32 ?_
        refine lv_topd (fun v32 e32 => ?_)
        refine lv_goto (tgt := 37) hx hb dX3_bitsOf_33 (by decide) ?_
        have hab : v32.toNat = d0.toNat % 2 ^ 63 ∨ d0.toNat % 2 ^ 63 = 0 := Or.inl (by rw [e32]; exact abs_a (Int32.lt_iff_toInt_lt.mpr (by rw [← e27]; exact i0_nge c28)))
        have hmd : v32.toNat % 2 ^ 63 = d0.toNat % 2 ^ 63 := by have := i0_nge c28; have h2 := abs_a (d := d0) (Int32.lt_iff_toInt_lt.mpr (by rw [← e27]; exact this)); rw [← e32] at h2; omega
        refine lv_dstore (lv' := [(4, .double v32), (2, .long (-9223372036854775808)), (0, .double d0)]) hx hb dX3_bitsOf_37 hl (by decide) rfl (fun ls hl => ?_)
        refine lv_dload hx hb dX3_bitsOf_39 (lv_at hl 0 rfl) ?_
        refine lv_dconst0 hx hb dX3_bitsOf_41 ?_
        refine lv_dcmp hx hb dX3_bitsOf_42 ?_
        refine lv_topi (fun v42 e42 => ?_)
        refine lv_if_ne (tgt := 48) hx hb dX3_bitsOf_43 (by decide) (fun c43 => ?_) (fun c43 => ?_)
        · have hnz : d0.toNat % 2 ^ 63 ≠ 0 := by
            intro q
            have h1 : v32 = 0 ∨ v32 = 9223372036854775808 := by rcases Nat.lt_or_ge v32.toNat (2 ^ 63) with r | r; exact Or.inl (UInt64.toNat_inj.mp (show v32.toNat = 0 by omega)); exact Or.inr (UInt64.toNat_inj.mp (show v32.toNat = 9223372036854775808 by have := v32.toNat_lt; omega))
            rcases h1 with h1 | h1 <;> (rw [e42, h1] at c43; exact c43 (by decide +kernel))
          have hv : v32.toNat = d0.toNat % 2 ^ 63 := by omega
          have hlim := num64.mp hn
          refine lv_dload hx hb dX3_bitsOf_48 (lv_at hl 0 rfl) ?_
          refine lv_ldc2d (v := 9218868437227405312) hx hb hown (hts _ q1034) dX3_bitsOf_50 ?_
          refine lv_dcmp hx hb dX3_bitsOf_53 ?_
          refine lv_topi (fun v53 e53 => ?_)
          refine lv_if_ne (tgt := 63) hx hb dX3_bitsOf_54 (by decide) (fun c54 => ?_) (fun c54 => ?_)
          · have hni : d0.toNat % 2 ^ 63 ≠ 9218868437227405312 := fun q => c54 (by rw [e53]; exact (mag_lt_g hv (w := 9218868437227405312) rfl hlim (by decide)).2.1.mpr q)
            refine lv_dload hx hb dX3_bitsOf_63 (lv_at hl 0 rfl) ?_
            refine lv_sipush (v := -1022) hx hb dX3_bitsOf_65 (by decide) ?_
            refine pf_S 1 hx hb hml hown hts (As := [.int (-1022)]) (met_X3_power l (-1022) (by decide) (by decide)) (lw_S q1036 q1037 q28 q1038) (by decide +kernel) rfl ⟨Nat.le_of_ble_eq_true rfl, Nat.le_of_ble_eq_true rfl⟩ hl.1 rfl (Nat.le_of_ble_eq_true rfl) dX3_bitsOf_68 ⟨Nat.le_of_ble_eq_true rfl, Nat.le_of_ble_eq_true rfl⟩ ?_
            refine lv_topd (fun v68 e68 => ?_)
            refine lv_dcmp hx hb dX3_bitsOf_71 ?_
            refine lv_topi (fun v71 e71 => ?_)
            have hpw : v68.toNat = 2 ^ 52 := by rw [e68, pw_nat (by decide) (by decide)]; decide
            have hcm := mag_lt_g hv hpw hlim (by decide)
            rw [← e71] at hcm
            refine lv_if_ge (tgt := 94) hx hb dX3_bitsOf_72 (by decide) (fun c72 => ?_) (fun c72 => ?_)
            · have hge : 2 ^ 52 ≤ d0.toNat % 2 ^ 63 := by have := hcm.2.2.2.mp c72; omega
              obtain ⟨C, Q, hd, hC1, hC2, hQ1, hQ2, hn9⟩ := mag_norm hv (by omega) (by omega)
              have loop2 : ∀ (j9 : Nat) (ev : Int32) (v : UInt64) (x : Int) (ls : Array Slot), (-x).toNat < j9 → ev.toInt = Q - x → -1074 ≤ x → x ≤ 0 → Dy64 v false C x → lv_has ls 7 [(6, .int ev), (4, .double v), (2, .long (-9223372036854775808))] → pW yX3_bitsOf cX3_bitsOf 7 (some .long) 1 (.long (m_bits d0)) p l e s m args below meth c (F0 m 120 ls []) := by
                intro j9
                induction j9 with
                | zero =>
                  intro ev v x ls h9
                  exact absurd h9 (Nat.not_lt_zero _)
                | succ j9 ih =>
                  intro ev v x ls hj9 he hx1 hx2 hd hl
                  refine lv_dload hx hb dX3_bitsOf_120 (lv_at hl 1 rfl) ?_
                  refine lv_ldc2d (v := 4841369599423283200) hx hb hown (hts _ q1051) dX3_bitsOf_122 ?_
                  refine lv_dcmp hx hb dX3_bitsOf_125 ?_
                  refine lv_topi (fun v125 e125 => ?_)
                  refine lv_if_ge (tgt := 143) hx hb dX3_bitsOf_126 (by decide) (fun c126 => ?_) (fun c126 => ?_)
                  · have hx0 : x = 0 := by rw [e125, pw_52] at c126; have := (cond_lo hd hC1 hC2 (by omega) (by decide) (by decide)).mp c126; omega
                    rw [hx0] at hd he
                    have hn0 := hn9
                    refine lv_lload_n hx hb dX3_bitsOf_143 rfl (lv_at hl 2 rfl) ?_
                    refine lv_iload hx hb dX3_bitsOf_144 (lv_at hl 0 rfl) ?_
                    refine lv_sipush (v := 1075) hx hb dX3_bitsOf_146 (by decide) ?_
                    refine lv_iadd hx hb dX3_bitsOf_149 ?_
                    refine lv_topi (fun v149 e149 => ?_)
                    refine lv_i2l hx hb dX3_bitsOf_150 rfl ?_
                    refine lv_topl (fun v150 e150 => ?_)
                    refine lv_bipush (v := 52) hx hb dX3_bitsOf_151 (by decide) ?_
                    refine lv_lshl hx hb dX3_bitsOf_153 rfl ?_
                    refine lv_topl (fun v153 e153 => ?_)
                    refine lv_lor hx hb dX3_bitsOf_154 ?_
                    refine lv_topl (fun v154 e154 => ?_)
                    refine lv_dload hx hb dX3_bitsOf_155 (lv_at hl 1 rfl) ?_
                    refine lv_d2l hx hb dX3_bitsOf_157 ?_
                    refine lv_topl (fun v157 e157 => ?_)
                    refine lv_ldc2 (v := 4503599627370495) hx hb hown (hts _ q1052) dX3_bitsOf_158 ?_
                    refine lv_land hx hb dX3_bitsOf_161 ?_
                    refine lv_topl (fun v161 e161 => ?_)
                    refine lv_lor hx hb dX3_bitsOf_162 ?_
                    refine lv_topl (fun v162 e162 => ?_)
                    exact pf_lret hx hb hr hlk dX3_bitsOf_163 (by rw [e162, e154, hsg, e153, e150, e149, e161, e157, d2l_dy hd (by omega)]; exact put64 hn hC1 hC2 hQ1 hQ2 hn0 (by omega))
                  · have hxx : x < 0 := by rw [e125, pw_52] at c126; have := mt (cond_lo hd hC1 hC2 (by omega) (by decide) (by decide)).mpr c126; omega
                    refine lv_dload hx hb dX3_bitsOf_129 (lv_at hl 1 rfl) ?_
                    refine lv_ldc2d (v := 4611686018427387904) hx hb hown (hts _ q1040) dX3_bitsOf_131 ?_
                    refine lv_dmul hx hb dX3_bitsOf_134 (by rw [pw_1]; exact dy_vf64 (dy_shift hd (by omega) (by omega) (by decide) (by decide) rfl (by omega) (by omega))) ?_
                    refine lv_topd (fun v134 e134 => ?_)
                    refine lv_dstore (lv' := [(4, .double v134), (6, .int ev), (2, .long (-9223372036854775808))]) hx hb dX3_bitsOf_135 hl (by decide) rfl (fun ls hl => ?_)
                    obtain ⟨v137, e137⟩ : ∃ y : Int32, y = ev + (-1) := ⟨_, rfl⟩
                    refine lv_iinc (v := v137) (lv' := [(6, .int v137), (4, .double v134), (2, .long (-9223372036854775808))]) hx hb dX3_bitsOf_137 hl (k := 1) rfl (by rw [e137]; rfl) (by decide) rfl (fun ls hl => ?_)
                    refine lv_goto (tgt := 120) hx hb dX3_bitsOf_140 (by decide) ?_
                    have hxx : x < 0 := by rw [e125, pw_52] at c126; have := mt (cond_lo hd hC1 hC2 (by omega) (by decide) (by decide)).mpr c126; omega
                    exact ih v137 v134 (x + 1) ls (by omega) (by rw [e137, Int32.toInt_add, he, show (-1 : Int32).toInt = -1 from rfl, Int.bmod_eq_of_le (by omega) (by omega)]; omega) (by omega) (by omega) (by rw [e134, pw_1]; exact dy_shift hd (by omega) (by omega) (by decide) (by decide) rfl (by omega) (by omega)) (lv_sub hl [0, 1, 2] rfl)
              have loop1 : ∀ (j9 : Nat) (ev : Int32) (v : UInt64) (x : Int) (ls : Array Slot), x.toNat < j9 → ev.toInt = Q - x → -1074 ≤ x → x ≤ Q → Dy64 v false C x → lv_has ls 7 [(6, .int ev), (4, .double v), (2, .long (-9223372036854775808))] → pW yX3_bitsOf cX3_bitsOf 7 (some .long) 1 (.long (m_bits d0)) p l e s m args below meth c (F0 m 97 ls []) := by
                intro j9
                induction j9 with
                | zero =>
                  intro ev v x ls h9
                  exact absurd h9 (Nat.not_lt_zero _)
                | succ j9 ih =>
                  intro ev v x ls hj9 he hx1 hx2 hd hl
                  refine lv_dload hx hb dX3_bitsOf_97 (lv_at hl 1 rfl) ?_
                  refine lv_ldc2d (v := 4845873199050653696) hx hb hown (hts _ q1050) dX3_bitsOf_99 ?_
                  refine lv_dcmp hx hb dX3_bitsOf_102 ?_
                  refine lv_topi (fun v102 e102 => ?_)
                  refine lv_if_lt (tgt := 120) hx hb dX3_bitsOf_103 (by decide) (fun c103 => ?_) (fun c103 => ?_)
                  · have hxx : x < 1 := by rw [e102, pw_53] at c103; exact (cond_hi (P := 53) hd (by decide) hC1 hC2 (by omega) (by decide) (by decide)).mp c103
                    exact loop2 _ ev v x ls (Nat.lt_succ_self _) he (by omega) (by omega) hd (lv_sub hl [0, 1, 2] rfl)
                  · have hxx : 1 ≤ x := by rw [e102, pw_53] at c103; have := mt (cond_hi (P := 53) hd (by decide) hC1 hC2 (by omega) (by decide) (by decide)).mpr c103; omega
                    refine lv_dload hx hb dX3_bitsOf_106 (lv_at hl 1 rfl) ?_
                    refine lv_ldc2d (v := 4602678819172646912) hx hb hown (hts _ q1039) dX3_bitsOf_108 ?_
                    refine lv_dmul hx hb dX3_bitsOf_111 (by rw [pw_m1]; exact dy_vf64 (dy_shift hd (by omega) (by omega) (by decide) (by decide) rfl (by omega) (by omega))) ?_
                    refine lv_topd (fun v111 e111 => ?_)
                    refine lv_dstore (lv' := [(4, .double v111), (6, .int ev), (2, .long (-9223372036854775808))]) hx hb dX3_bitsOf_112 hl (by decide) rfl (fun ls hl => ?_)
                    obtain ⟨v114, e114⟩ : ∃ y : Int32, y = ev + 1 := ⟨_, rfl⟩
                    refine lv_iinc (v := v114) (lv' := [(6, .int v114), (4, .double v111), (2, .long (-9223372036854775808))]) hx hb dX3_bitsOf_114 hl (k := 1) rfl (by rw [e114]; rfl) (by decide) rfl (fun ls hl => ?_)
                    refine lv_goto (tgt := 97) hx hb dX3_bitsOf_117 (by decide) ?_
                    exact ih v114 v111 (x - 1) ls (by omega) (by rw [e114, Int32.toInt_add, he, show (1 : Int32).toInt = 1 from rfl, Int.bmod_eq_of_le (by omega) (by omega)]; omega) (by omega) (by omega) (by rw [e111, pw_m1]; exact dy_shift hd (by omega) (by omega) (by decide) (by decide) rfl (by omega) (by omega)) (lv_sub hl [0, 1, 2] rfl)
              refine lv_iconst (v := 0) hx hb dX3_bitsOf_94 (by decide) ?_
              refine lv_istore (lv' := [(6, .int 0), (4, .double v32), (2, .long (-9223372036854775808)), (0, .double d0)]) hx hb dX3_bitsOf_95 hl (by decide) rfl (fun ls hl => ?_)
              exact loop1 _ 0 v32 Q ls (Nat.lt_succ_self _) (by rw [Int.sub_self]; rfl) (by omega) (Int.le_refl _) hd (lv_sub hl [0, 1, 2] rfl)
            · have hl52 : d0.toNat % 2 ^ 63 < 2 ^ 52 := by have := hcm.2.2.2; have h2 := mt this.mpr c72; omega
              have hsub := mag_sub hv hl52
              have hs1 := dy_shift (k := 1000) (g := -74) hsub (by omega) (by decide) (by decide) (by decide) (by decide) (by decide) (by decide)
              have hs2 := dy_shift (k := 74) (g := 0) hs1 (by omega) (by decide) (by decide) (by decide) (by decide) (by decide) (by decide)
              refine lv_lload_n hx hb dX3_bitsOf_75 rfl (lv_at hl 1 rfl) ?_
              refine lv_dload hx hb dX3_bitsOf_76 (lv_at hl 0 rfl) ?_
              refine lv_sipush (v := 1000) hx hb dX3_bitsOf_78 (by decide) ?_
              refine pf_S 1 hx hb hml hown hts (As := [.int 1000]) (met_X3_power l 1000 (by decide) (by decide)) (lw_S q1036 q1037 q28 q1038) (by decide +kernel) rfl ⟨Nat.le_of_ble_eq_true rfl, Nat.le_of_ble_eq_true rfl⟩ hl.1 rfl (Nat.le_of_ble_eq_true rfl) dX3_bitsOf_81 ⟨Nat.le_of_ble_eq_true rfl, Nat.le_of_ble_eq_true rfl⟩ ?_
              refine lv_topd (fun v81 e81 => ?_)
              refine lv_dmul hx hb dX3_bitsOf_84 (by rw [e81]; exact dy_vf64 hs1) ?_
              refine lv_topd (fun v84 e84 => ?_)
              refine lv_bipush (v := 74) hx hb dX3_bitsOf_85 (by decide) ?_
              refine pf_S 1 hx hb hml hown hts (As := [.int 74]) (met_X3_power l 74 (by decide) (by decide)) (lw_S q1036 q1037 q28 q1038) (by decide +kernel) rfl ⟨Nat.le_of_ble_eq_true rfl, Nat.le_of_ble_eq_true rfl⟩ hl.1 rfl (Nat.le_of_ble_eq_true rfl) dX3_bitsOf_87 ⟨Nat.le_of_ble_eq_true rfl, Nat.le_of_ble_eq_true rfl⟩ ?_
              refine lv_topd (fun v87 e87 => ?_)
              refine lv_dmul hx hb dX3_bitsOf_90 (by rw [e84, e81, e87]; exact dy_vf64 hs2) ?_
              refine lv_topd (fun v90 e90 => ?_)
              refine lv_d2l hx hb dX3_bitsOf_91 ?_
              refine lv_topl (fun v91 e91 => ?_)
              refine lv_lor hx hb dX3_bitsOf_92 ?_
              refine lv_topl (fun v92 e92 => ?_)
              exact pf_lret hx hb hr hlk dX3_bitsOf_93 (by rw [e92, hsg, e91, e90, e84, e81, e87, show (1000 : Int32).toInt = 1000 from rfl, show (74 : Int32).toInt = 74 from rfl, d2l_dy hs2 (by omega)]; exact sg_or (i64_ofNat (by omega)) hn)
          · refine lv_lload_n hx hb dX3_bitsOf_57 rfl (lv_at hl 1 rfl) ?_
            refine lv_ldc2 (v := 9218868437227405312) hx hb hown (hts _ q1049) dX3_bitsOf_58 ?_
            refine lv_lor hx hb dX3_bitsOf_61 ?_
            refine lv_topl (fun v61 e61 => ?_)
            exact pf_lret hx hb hr hlk dX3_bitsOf_62 (by have h9 := (mag_lt_g hv (w := (9218868437227405312 : UInt64)) rfl hlim (by decide)).2.1.mp (by rw [← e53]; exact c54); rw [e61, hsg]; exact sg_or (by rw [h9]; rfl) hn)
        · refine lv_lload_n hx hb dX3_bitsOf_46 rfl (lv_at hl 1 rfl) ?_
          exact pf_lret hx hb hr hlk dX3_bitsOf_47 (by rw [hsg]; rcases zero_or (by rw [← e42]; exact c43) with q | q <;> (refine zero_bits ?_; rw [← hmd, q]; rfl))
  · refine lv_ldc2 (v := 9221120237041090560) hx hb hown (hts _ q1047) dX3_bitsOf_6 ?_
    exact pf_lret hx hb hr hlk dX3_bitsOf_9 (by unfold m_bits; rw [if_pos]; have h1 : FV64 d0 = .nan := Decidable.byContradiction fun q => c3 (by rw [e2]; exact cv_eq_l.mpr (fc_self64.mpr q)); exact (nan_iff64 d0).mp h1)
set_option maxHeartbeats 4000000 in
theorem met_X3_bitsOfSingle (l : Launch) (f0 : UInt32) : PF l yX3_bitsOfSingle cX3_bitsOfSingle 7 (some .int) 1 [.float f0] (.int (m_bos f0)) := by
  refine pf_of (by decide) (Nat.le_of_ble_eq_true rfl) ?_
  intro p e s m args below meth c ls hx hb hr hts hown hlk hml hl
  have hl : lv_has ls 7 [(0, .float f0)] := hl
  refine lv_fload_n hx hb dX3_bitsOfSingle_0 rfl (lv_at hl 0 rfl) ?_
  refine lv_fload_n hx hb dX3_bitsOfSingle_1 rfl (lv_at hl 0 rfl) ?_
  refine lv_fcmp hx hb dX3_bitsOfSingle_2 ?_
  refine lv_topi (fun v2 e2 => ?_)
  refine lv_if_eq (tgt := 9) hx hb dX3_bitsOfSingle_3 (by decide) (fun c3 => ?_) (fun c3 => ?_)
  · have hn : FV32 f0 ≠ .nan := fc_self32.mp (cv_eq_l.mp (by rw [← e2]; exact c3))
    refine lv_fload_n hx hb dX3_bitsOfSingle_9 rfl (lv_at hl 0 rfl) ?_
    refine lv_f2d hx hb dX3_bitsOfSingle_10 (vf_of64 (f2d_nn hn)) ?_
    refine lv_topd (fun v10 e10 => ?_)
    have hnd : FV64 v10 ≠ .nan := by rw [e10]; exact f2d_nn hn
    have hsgn := f2d_sign hn
    rw [← e10] at hsgn
    refine lv_dstore_n (lv' := [(1, .double v10), (0, .float f0)]) hx hb dX3_bitsOfSingle_11 rfl hl (by decide) rfl (fun ls hl => ?_)
    refine lv_dload_n hx hb dX3_bitsOfSingle_12 rfl (lv_at hl 0 rfl) ?_
    refine pf_S 1 hx hb hml hown hts (As := [.double v10]) (met_X3_isBelow l v10 hnd) (lw_S q1030 q1031 q28 q1032) (by decide +kernel) rfl ⟨Nat.le_of_ble_eq_true rfl, Nat.le_of_ble_eq_true rfl⟩ hl.1 rfl (Nat.le_of_ble_eq_true rfl) dX3_bitsOfSingle_13 ⟨Nat.le_of_ble_eq_true rfl, Nat.le_of_ble_eq_true rfl⟩ ?_
    refine lv_topi (fun v13 e13 => ?_)
    refine lv_if_eq (tgt := 24) hx hb dX3_bitsOfSingle_16 (by decide) (fun c16 => ?_) (fun c16 => ?_)
    · refine lv_iconst (v := 0) hx hb dX3_bitsOfSingle_24 (by decide) ?_
      have hsg : (0 : Int32) = m_sf f0 := (below_sf hn).1 (by rw [← e10, ← e13]; exact c16)
      refine lv_istore_n (lv' := [(3, .int 0), (1, .double v10), (0, .float f0)]) hx hb dX3_bitsOfSingle_25 rfl hl (by decide) rfl (fun ls hl => ?_)
      refine lv_dload_n hx hb dX3_bitsOfSingle_26 rfl (lv_at hl 1 rfl) ?_
      refine lv_dconst0 hx hb dX3_bitsOfSingle_27 ?_
      refine lv_dcmp hx hb dX3_bitsOfSingle_28 ?_
      refine lv_topi (fun v28 e28 => ?_)
      refine lv_if_ge (tgt := 37) hx hb dX3_bitsOfSingle_29 (by decide) (fun c29 => ?_) (fun c29 => ?_)
      · refine lv_dload_n hx hb dX3_bitsOfSingle_37 rfl (lv_at hl 1 rfl) ?_
        have hab : v10.toNat = v10.toNat % 2 ^ 63 ∨ v10.toNat % 2 ^ 63 = 0 := abs_b hnd (fun q => absurd (i0_ge c29) (by rw [e28]; have := i0_lt q; omega))
        have hmd : v10.toNat % 2 ^ 63 = v10.toNat % 2 ^ 63 := by rfl
        refine lv_dstore (lv' := [(4, .double v10), (3, .int 0), (1, .double v10), (0, .float f0)]) hx hb dX3_bitsOfSingle_38 hl (by decide) rfl (fun ls hl => ?_)
        refine lv_dload hx hb dX3_bitsOfSingle_40 (lv_at hl 0 rfl) ?_
        refine lv_dconst0 hx hb dX3_bitsOfSingle_42 ?_
        refine lv_dcmp hx hb dX3_bitsOfSingle_43 ?_
        refine lv_topi (fun v43 e43 => ?_)
        refine lv_if_ne (tgt := 49) hx hb dX3_bitsOfSingle_44 (by decide) (fun c44 => ?_) (fun c44 => ?_)
        · have hnz : v10.toNat % 2 ^ 63 ≠ 0 := by
            intro q
            have h1 : v10 = 0 ∨ v10 = 9223372036854775808 := by rcases Nat.lt_or_ge v10.toNat (2 ^ 63) with r | r; exact Or.inl (UInt64.toNat_inj.mp (show v10.toNat = 0 by omega)); exact Or.inr (UInt64.toNat_inj.mp (show v10.toNat = 9223372036854775808 by have := v10.toNat_lt; omega))
            rcases h1 with h1 | h1 <;> (rw [e43, h1] at c44; exact c44 (by decide +kernel))
          have hv : v10.toNat = v10.toNat % 2 ^ 63 := by omega
          have hlim := num64.mp hnd
          refine lv_dload hx hb dX3_bitsOfSingle_49 (lv_at hl 0 rfl) ?_
          refine lv_ldc2d (v := 9218868437227405312) hx hb hown (hts _ q1034) dX3_bitsOfSingle_51 ?_
          refine lv_dcmp hx hb dX3_bitsOfSingle_54 ?_
          refine lv_topi (fun v54 e54 => ?_)
          refine lv_if_ne (tgt := 63) hx hb dX3_bitsOfSingle_55 (by decide) (fun c55 => ?_) (fun c55 => ?_)
          · have hni : v10.toNat % 2 ^ 63 ≠ 9218868437227405312 := fun q => c55 (by rw [e54]; exact (mag_lt_g hv (w := 9218868437227405312) rfl hlim (by decide)).2.1.mpr q)
            have hlim2 := num32.mp hn
            have hni2 : f0.toNat % 2 ^ 31 < 2139095040 := by have : f0.toNat % 2 ^ 31 ≠ 2139095040 := fun q => hni (hsgn.2.2.mpr q); omega
            have hmg := single_mag (by rw [← e10]; exact hv) hni2
            refine lv_dload hx hb dX3_bitsOfSingle_63 (lv_at hl 0 rfl) ?_
            refine lv_bipush (v := -126) hx hb dX3_bitsOfSingle_65 (by decide) ?_
            refine pf_S 1 hx hb hml hown hts (As := [.int (-126)]) (met_X3_power l (-126) (by decide) (by decide)) (lw_S q1036 q1037 q28 q1038) (by decide +kernel) rfl ⟨Nat.le_of_ble_eq_true rfl, Nat.le_of_ble_eq_true rfl⟩ hl.1 rfl (Nat.le_of_ble_eq_true rfl) dX3_bitsOfSingle_67 ⟨Nat.le_of_ble_eq_true rfl, Nat.le_of_ble_eq_true rfl⟩ ?_
            refine lv_topd (fun v67 e67 => ?_)
            refine lv_dcmp hx hb dX3_bitsOfSingle_70 ?_
            refine lv_topi (fun v70 e70 => ?_)
            have hcm : v70 ≥ 0 ↔ 2 ^ 23 ≤ f0.toNat % 2 ^ 31 := by rw [e70, e67]; exact cond_sub hmg
            refine lv_if_ge (tgt := 87) hx hb dX3_bitsOfSingle_71 (by decide) (fun c71 => ?_) (fun c71 => ?_)
            · have hge : 2 ^ 23 ≤ f0.toNat % 2 ^ 31 := hcm.mp c71
              obtain ⟨C, Q, hd, hC1, hC2, hQ1, hQ2, hn9⟩ : ∃ (C : Nat) (Q : Int), Dy64 v10 false C Q ∧ 2 ^ 23 ≤ C ∧ C < 2 ^ 24 ∧ -149 ≤ Q ∧ Q ≤ 104 ∧ (((f0.toNat % 2 ^ 31 : Nat)) : Int) = (Q + 150) * 2 ^ 23 + (C - 2 ^ 23) := by rcases hmg with ⟨q, -⟩ | ⟨-, q⟩; omega; exact q
              have loop2 : ∀ (j9 : Nat) (ev : Int32) (v : UInt64) (x : Int) (ls : Array Slot), (-x).toNat < j9 → ev.toInt = Q - x → -149 ≤ x → x ≤ 0 → Dy64 v false C x → lv_has ls 7 [(6, .int ev), (4, .double v), (3, .int 0)] → pW yX3_bitsOfSingle cX3_bitsOfSingle 7 (some .int) 1 (.int (m_bos f0)) p l e s m args below meth c (F0 m 113 ls []) := by
                intro j9
                induction j9 with
                | zero =>
                  intro ev v x ls h9
                  exact absurd h9 (Nat.not_lt_zero _)
                | succ j9 ih =>
                  intro ev v x ls hj9 he hx1 hx2 hd hl
                  refine lv_dload hx hb dX3_bitsOfSingle_113 (lv_at hl 1 rfl) ?_
                  refine lv_ldc2d (v := 4710765210229538816) hx hb hown (hts _ q1042) dX3_bitsOfSingle_115 ?_
                  refine lv_dcmp hx hb dX3_bitsOfSingle_118 ?_
                  refine lv_topi (fun v118 e118 => ?_)
                  refine lv_if_ge (tgt := 136) hx hb dX3_bitsOfSingle_119 (by decide) (fun c119 => ?_) (fun c119 => ?_)
                  · have hx0 : x = 0 := by rw [e118, pw_23] at c119; have := (cond_lo hd hC1 hC2 (by omega) (by decide) (by decide)).mp c119; omega
                    rw [hx0] at hd he
                    refine lv_iload_n hx hb dX3_bitsOfSingle_136 rfl (lv_at hl 2 rfl) ?_
                    refine lv_iload hx hb dX3_bitsOfSingle_137 (lv_at hl 0 rfl) ?_
                    refine lv_sipush (v := 150) hx hb dX3_bitsOfSingle_139 (by decide) ?_
                    refine lv_iadd hx hb dX3_bitsOfSingle_142 ?_
                    refine lv_topi (fun v142 e142 => ?_)
                    refine lv_bipush (v := 23) hx hb dX3_bitsOfSingle_143 (by decide) ?_
                    refine lv_ishl hx hb dX3_bitsOfSingle_145 ?_
                    refine lv_topi (fun v145 e145 => ?_)
                    refine lv_ior hx hb dX3_bitsOfSingle_146 ?_
                    refine lv_topi (fun v146 e146 => ?_)
                    refine lv_dload hx hb dX3_bitsOfSingle_147 (lv_at hl 1 rfl) ?_
                    refine lv_d2i hx hb dX3_bitsOfSingle_149 ?_
                    refine lv_topi (fun v149 e149 => ?_)
                    refine lv_ldc (v := 8388607) hx hb hown (hts _ q1043) dX3_bitsOfSingle_150 ?_
                    refine lv_iand hx hb dX3_bitsOfSingle_152 ?_
                    refine lv_topi (fun v152 e152 => ?_)
                    refine lv_ior hx hb dX3_bitsOfSingle_153 ?_
                    refine lv_topi (fun v153 e153 => ?_)
                    exact pf_iret hx hb hr hlk dX3_bitsOfSingle_154 (by rw [e153, e146, hsg, e145, e142, e152, e149, d2i_dy hd (by omega)]; exact put32 hn hC1 hC2 hQ1 hQ2 hn9 (by omega))
                  · have hxx : x < 0 := by rw [e118, pw_23] at c119; have := mt (cond_lo hd hC1 hC2 (by omega) (by decide) (by decide)).mpr c119; omega
                    refine lv_dload hx hb dX3_bitsOfSingle_122 (lv_at hl 1 rfl) ?_
                    refine lv_ldc2d (v := 4611686018427387904) hx hb hown (hts _ q1040) dX3_bitsOfSingle_124 ?_
                    refine lv_dmul hx hb dX3_bitsOfSingle_127 (by rw [pw_1]; exact dy_vf64 (dy_shift hd (by omega) (by omega) (by decide) (by decide) rfl (by omega) (by omega))) ?_
                    refine lv_topd (fun v127 e127 => ?_)
                    refine lv_dstore (lv' := [(4, .double v127), (6, .int ev), (3, .int 0)]) hx hb dX3_bitsOfSingle_128 hl (by decide) rfl (fun ls hl => ?_)
                    obtain ⟨v130, e130⟩ : ∃ y : Int32, y = ev + (-1) := ⟨_, rfl⟩
                    refine lv_iinc (v := v130) (lv' := [(6, .int v130), (4, .double v127), (3, .int 0)]) hx hb dX3_bitsOfSingle_130 hl (k := 1) rfl (by rw [e130]; rfl) (by decide) rfl (fun ls hl => ?_)
                    refine lv_goto (tgt := 113) hx hb dX3_bitsOfSingle_133 (by decide) ?_
                    have hxx : x < 0 := by rw [e118, pw_23] at c119; have := mt (cond_lo hd hC1 hC2 (by omega) (by decide) (by decide)).mpr c119; omega
                    exact ih v130 v127 (x + 1) ls (by omega) (by rw [e130, Int32.toInt_add, he, show (-1 : Int32).toInt = -1 from rfl, Int.bmod_eq_of_le (by omega) (by omega)]; omega) (by omega) (by omega) (by rw [e127, pw_1]; exact dy_shift hd (by omega) (by omega) (by decide) (by decide) rfl (by omega) (by omega)) (lv_sub hl [0, 1, 2] rfl)
              have loop1 : ∀ (j9 : Nat) (ev : Int32) (v : UInt64) (x : Int) (ls : Array Slot), x.toNat < j9 → ev.toInt = Q - x → -149 ≤ x → x ≤ Q → Dy64 v false C x → lv_has ls 7 [(6, .int ev), (4, .double v), (3, .int 0)] → pW yX3_bitsOfSingle cX3_bitsOfSingle 7 (some .int) 1 (.int (m_bos f0)) p l e s m args below meth c (F0 m 90 ls []) := by
                intro j9
                induction j9 with
                | zero =>
                  intro ev v x ls h9
                  exact absurd h9 (Nat.not_lt_zero _)
                | succ j9 ih =>
                  intro ev v x ls hj9 he hx1 hx2 hd hl
                  refine lv_dload hx hb dX3_bitsOfSingle_90 (lv_at hl 1 rfl) ?_
                  refine lv_ldc2d (v := 4715268809856909312) hx hb hown (hts _ q1041) dX3_bitsOfSingle_92 ?_
                  refine lv_dcmp hx hb dX3_bitsOfSingle_95 ?_
                  refine lv_topi (fun v95 e95 => ?_)
                  refine lv_if_lt (tgt := 113) hx hb dX3_bitsOfSingle_96 (by decide) (fun c96 => ?_) (fun c96 => ?_)
                  · have hxx : x < 1 := by rw [e95, pw_24] at c96; exact (cond_hi (P := 24) hd (by decide) hC1 hC2 (by omega) (by decide) (by decide)).mp c96
                    exact loop2 _ ev v x ls (Nat.lt_succ_self _) he (by omega) (by omega) hd (lv_sub hl [0, 1, 2] rfl)
                  · have hxx : 1 ≤ x := by rw [e95, pw_24] at c96; have := mt (cond_hi (P := 24) hd (by decide) hC1 hC2 (by omega) (by decide) (by decide)).mpr c96; omega
                    refine lv_dload hx hb dX3_bitsOfSingle_99 (lv_at hl 1 rfl) ?_
                    refine lv_ldc2d (v := 4602678819172646912) hx hb hown (hts _ q1039) dX3_bitsOfSingle_101 ?_
                    refine lv_dmul hx hb dX3_bitsOfSingle_104 (by rw [pw_m1]; exact dy_vf64 (dy_shift hd (by omega) (by omega) (by decide) (by decide) rfl (by omega) (by omega))) ?_
                    refine lv_topd (fun v104 e104 => ?_)
                    refine lv_dstore (lv' := [(4, .double v104), (6, .int ev), (3, .int 0)]) hx hb dX3_bitsOfSingle_105 hl (by decide) rfl (fun ls hl => ?_)
                    obtain ⟨v107, e107⟩ : ∃ y : Int32, y = ev + 1 := ⟨_, rfl⟩
                    refine lv_iinc (v := v107) (lv' := [(6, .int v107), (4, .double v104), (3, .int 0)]) hx hb dX3_bitsOfSingle_107 hl (k := 1) rfl (by rw [e107]; rfl) (by decide) rfl (fun ls hl => ?_)
                    refine lv_goto (tgt := 90) hx hb dX3_bitsOfSingle_110 (by decide) ?_
                    exact ih v107 v104 (x - 1) ls (by omega) (by rw [e107, Int32.toInt_add, he, show (1 : Int32).toInt = 1 from rfl, Int.bmod_eq_of_le (by omega) (by omega)]; omega) (by omega) (by omega) (by rw [e104, pw_m1]; exact dy_shift hd (by omega) (by omega) (by decide) (by decide) rfl (by omega) (by omega)) (lv_sub hl [0, 1, 2] rfl)
              refine lv_iconst (v := 0) hx hb dX3_bitsOfSingle_87 (by decide) ?_
              refine lv_istore (lv' := [(6, .int 0), (4, .double v10), (3, .int 0), (1, .double v10), (0, .float f0)]) hx hb dX3_bitsOfSingle_88 hl (by decide) rfl (fun ls hl => ?_)
              exact loop1 _ 0 v10 Q ls (Nat.lt_succ_self _) (by rw [Int.sub_self]; rfl) (by omega) (Int.le_refl _) hd (lv_sub hl [0, 1, 2] rfl)
            · have hl23 : f0.toNat % 2 ^ 31 < 2 ^ 23 := by have h2 := mt hcm.mpr c71; omega
              have hsub : Dy64 v10 false (f0.toNat % 2 ^ 31) (-149) := by rcases hmg with ⟨-, q⟩ | ⟨q, -⟩; exact q; omega
              have hs1 := dy_shift (k := 149) (g := 0) hsub (by omega) (by decide) (by decide) (by decide) (by decide) (by decide) (by decide)
              refine lv_iload_n hx hb dX3_bitsOfSingle_74 rfl (lv_at hl 1 rfl) ?_
              refine lv_dload hx hb dX3_bitsOfSingle_75 (lv_at hl 0 rfl) ?_
              refine lv_sipush (v := 149) hx hb dX3_bitsOfSingle_77 (by decide) ?_
              refine pf_S 1 hx hb hml hown hts (As := [.int 149]) (met_X3_power l 149 (by decide) (by decide)) (lw_S q1036 q1037 q28 q1038) (by decide +kernel) rfl ⟨Nat.le_of_ble_eq_true rfl, Nat.le_of_ble_eq_true rfl⟩ hl.1 rfl (Nat.le_of_ble_eq_true rfl) dX3_bitsOfSingle_80 ⟨Nat.le_of_ble_eq_true rfl, Nat.le_of_ble_eq_true rfl⟩ ?_
              refine lv_topd (fun v80 e80 => ?_)
              refine lv_dmul hx hb dX3_bitsOfSingle_83 (by rw [e80]; exact dy_vf64 hs1) ?_
              refine lv_topd (fun v83 e83 => ?_)
              refine lv_d2i hx hb dX3_bitsOfSingle_84 ?_
              refine lv_topi (fun v84 e84 => ?_)
              refine lv_ior hx hb dX3_bitsOfSingle_85 ?_
              refine lv_topi (fun v85 e85 => ?_)
              exact pf_iret hx hb hr hlk dX3_bitsOfSingle_86 (by rw [e85, hsg, e84, e83, e80, show (149 : Int32).toInt = 149 from rfl, d2i_dy hs1 (by omega)]; exact sf_or (i32_ofNat (by omega)) hn)
          · refine lv_iload_n hx hb dX3_bitsOfSingle_58 rfl (lv_at hl 1 rfl) ?_
            refine lv_ldc (v := 2139095040) hx hb hown (hts _ q1035) dX3_bitsOfSingle_59 ?_
            refine lv_ior hx hb dX3_bitsOfSingle_61 ?_
            refine lv_topi (fun v61 e61 => ?_)
            exact pf_iret hx hb hr hlk dX3_bitsOfSingle_62 (by have h9 := (mag_lt_g hv (w := (9218868437227405312 : UInt64)) rfl hlim (by decide)).2.1.mp (by rw [← e54]; exact c55); rw [e61, hsg]; exact sf_or (by rw [hsgn.2.2.mp h9]; rfl) hn)
        · refine lv_iload_n hx hb dX3_bitsOfSingle_47 rfl (lv_at hl 1 rfl) ?_
          exact pf_iret hx hb hr hlk dX3_bitsOfSingle_48 (by rw [hsg]; refine zero_bos (hsgn.2.1.mp ?_); rcases zero_or (by rw [← e43]; exact c44) with q | q <;> (rw [← hmd, q]; rfl))
      · refine lv_dload_n hx hb dX3_bitsOfSingle_32 rfl (lv_at hl 1 rfl) ?_
        refine lv_dneg hx hb dX3_bitsOfSingle_33 ?_
        refine lv_topd (fun v33 e33 => ?_)
        refine lv_goto (tgt := 38) hx hb dX3_bitsOfSingle_34 (by decide) ?_
        have hab : v33.toNat = v10.toNat % 2 ^ 63 ∨ v10.toNat % 2 ^ 63 = 0 := Or.inl (by rw [e33]; exact abs_a (Int32.lt_iff_toInt_lt.mpr (by rw [← e28]; exact i0_nge c29)))
        have hmd : v33.toNat % 2 ^ 63 = v10.toNat % 2 ^ 63 := by have := i0_nge c29; have h2 := abs_a (d := v10) (Int32.lt_iff_toInt_lt.mpr (by rw [← e28]; exact this)); rw [← e33] at h2; omega
        refine lv_dstore (lv' := [(4, .double v33), (3, .int 0), (1, .double v10), (0, .float f0)]) hx hb dX3_bitsOfSingle_38 hl (by decide) rfl (fun ls hl => ?_)
        refine lv_dload hx hb dX3_bitsOfSingle_40 (lv_at hl 0 rfl) ?_
        refine lv_dconst0 hx hb dX3_bitsOfSingle_42 ?_
        refine lv_dcmp hx hb dX3_bitsOfSingle_43 ?_
        refine lv_topi (fun v43 e43 => ?_)
        refine lv_if_ne (tgt := 49) hx hb dX3_bitsOfSingle_44 (by decide) (fun c44 => ?_) (fun c44 => ?_)
        · have hnz : v10.toNat % 2 ^ 63 ≠ 0 := by
            intro q
            have h1 : v33 = 0 ∨ v33 = 9223372036854775808 := by rcases Nat.lt_or_ge v33.toNat (2 ^ 63) with r | r; exact Or.inl (UInt64.toNat_inj.mp (show v33.toNat = 0 by omega)); exact Or.inr (UInt64.toNat_inj.mp (show v33.toNat = 9223372036854775808 by have := v33.toNat_lt; omega))
            rcases h1 with h1 | h1 <;> (rw [e43, h1] at c44; exact c44 (by decide +kernel))
          have hv : v33.toNat = v10.toNat % 2 ^ 63 := by omega
          have hlim := num64.mp hnd
          refine lv_dload hx hb dX3_bitsOfSingle_49 (lv_at hl 0 rfl) ?_
          refine lv_ldc2d (v := 9218868437227405312) hx hb hown (hts _ q1034) dX3_bitsOfSingle_51 ?_
          refine lv_dcmp hx hb dX3_bitsOfSingle_54 ?_
          refine lv_topi (fun v54 e54 => ?_)
          refine lv_if_ne (tgt := 63) hx hb dX3_bitsOfSingle_55 (by decide) (fun c55 => ?_) (fun c55 => ?_)
          · have hni : v10.toNat % 2 ^ 63 ≠ 9218868437227405312 := fun q => c55 (by rw [e54]; exact (mag_lt_g hv (w := 9218868437227405312) rfl hlim (by decide)).2.1.mpr q)
            have hlim2 := num32.mp hn
            have hni2 : f0.toNat % 2 ^ 31 < 2139095040 := by have : f0.toNat % 2 ^ 31 ≠ 2139095040 := fun q => hni (hsgn.2.2.mpr q); omega
            have hmg := single_mag (by rw [← e10]; exact hv) hni2
            refine lv_dload hx hb dX3_bitsOfSingle_63 (lv_at hl 0 rfl) ?_
            refine lv_bipush (v := -126) hx hb dX3_bitsOfSingle_65 (by decide) ?_
            refine pf_S 1 hx hb hml hown hts (As := [.int (-126)]) (met_X3_power l (-126) (by decide) (by decide)) (lw_S q1036 q1037 q28 q1038) (by decide +kernel) rfl ⟨Nat.le_of_ble_eq_true rfl, Nat.le_of_ble_eq_true rfl⟩ hl.1 rfl (Nat.le_of_ble_eq_true rfl) dX3_bitsOfSingle_67 ⟨Nat.le_of_ble_eq_true rfl, Nat.le_of_ble_eq_true rfl⟩ ?_
            refine lv_topd (fun v67 e67 => ?_)
            refine lv_dcmp hx hb dX3_bitsOfSingle_70 ?_
            refine lv_topi (fun v70 e70 => ?_)
            have hcm : v70 ≥ 0 ↔ 2 ^ 23 ≤ f0.toNat % 2 ^ 31 := by rw [e70, e67]; exact cond_sub hmg
            refine lv_if_ge (tgt := 87) hx hb dX3_bitsOfSingle_71 (by decide) (fun c71 => ?_) (fun c71 => ?_)
            · have hge : 2 ^ 23 ≤ f0.toNat % 2 ^ 31 := hcm.mp c71
              obtain ⟨C, Q, hd, hC1, hC2, hQ1, hQ2, hn9⟩ : ∃ (C : Nat) (Q : Int), Dy64 v33 false C Q ∧ 2 ^ 23 ≤ C ∧ C < 2 ^ 24 ∧ -149 ≤ Q ∧ Q ≤ 104 ∧ (((f0.toNat % 2 ^ 31 : Nat)) : Int) = (Q + 150) * 2 ^ 23 + (C - 2 ^ 23) := by rcases hmg with ⟨q, -⟩ | ⟨-, q⟩; omega; exact q
              have loop2 : ∀ (j9 : Nat) (ev : Int32) (v : UInt64) (x : Int) (ls : Array Slot), (-x).toNat < j9 → ev.toInt = Q - x → -149 ≤ x → x ≤ 0 → Dy64 v false C x → lv_has ls 7 [(6, .int ev), (4, .double v), (3, .int 0)] → pW yX3_bitsOfSingle cX3_bitsOfSingle 7 (some .int) 1 (.int (m_bos f0)) p l e s m args below meth c (F0 m 113 ls []) := by
                intro j9
                induction j9 with
                | zero =>
                  intro ev v x ls h9
                  exact absurd h9 (Nat.not_lt_zero _)
                | succ j9 ih =>
                  intro ev v x ls hj9 he hx1 hx2 hd hl
                  refine lv_dload hx hb dX3_bitsOfSingle_113 (lv_at hl 1 rfl) ?_
                  refine lv_ldc2d (v := 4710765210229538816) hx hb hown (hts _ q1042) dX3_bitsOfSingle_115 ?_
                  refine lv_dcmp hx hb dX3_bitsOfSingle_118 ?_
                  refine lv_topi (fun v118 e118 => ?_)
                  refine lv_if_ge (tgt := 136) hx hb dX3_bitsOfSingle_119 (by decide) (fun c119 => ?_) (fun c119 => ?_)
                  · have hx0 : x = 0 := by rw [e118, pw_23] at c119; have := (cond_lo hd hC1 hC2 (by omega) (by decide) (by decide)).mp c119; omega
                    rw [hx0] at hd he
                    refine lv_iload_n hx hb dX3_bitsOfSingle_136 rfl (lv_at hl 2 rfl) ?_
                    refine lv_iload hx hb dX3_bitsOfSingle_137 (lv_at hl 0 rfl) ?_
                    refine lv_sipush (v := 150) hx hb dX3_bitsOfSingle_139 (by decide) ?_
                    refine lv_iadd hx hb dX3_bitsOfSingle_142 ?_
                    refine lv_topi (fun v142 e142 => ?_)
                    refine lv_bipush (v := 23) hx hb dX3_bitsOfSingle_143 (by decide) ?_
                    refine lv_ishl hx hb dX3_bitsOfSingle_145 ?_
                    refine lv_topi (fun v145 e145 => ?_)
                    refine lv_ior hx hb dX3_bitsOfSingle_146 ?_
                    refine lv_topi (fun v146 e146 => ?_)
                    refine lv_dload hx hb dX3_bitsOfSingle_147 (lv_at hl 1 rfl) ?_
                    refine lv_d2i hx hb dX3_bitsOfSingle_149 ?_
                    refine lv_topi (fun v149 e149 => ?_)
                    refine lv_ldc (v := 8388607) hx hb hown (hts _ q1043) dX3_bitsOfSingle_150 ?_
                    refine lv_iand hx hb dX3_bitsOfSingle_152 ?_
                    refine lv_topi (fun v152 e152 => ?_)
                    refine lv_ior hx hb dX3_bitsOfSingle_153 ?_
                    refine lv_topi (fun v153 e153 => ?_)
                    exact pf_iret hx hb hr hlk dX3_bitsOfSingle_154 (by rw [e153, e146, hsg, e145, e142, e152, e149, d2i_dy hd (by omega)]; exact put32 hn hC1 hC2 hQ1 hQ2 hn9 (by omega))
                  · have hxx : x < 0 := by rw [e118, pw_23] at c119; have := mt (cond_lo hd hC1 hC2 (by omega) (by decide) (by decide)).mpr c119; omega
                    refine lv_dload hx hb dX3_bitsOfSingle_122 (lv_at hl 1 rfl) ?_
                    refine lv_ldc2d (v := 4611686018427387904) hx hb hown (hts _ q1040) dX3_bitsOfSingle_124 ?_
                    refine lv_dmul hx hb dX3_bitsOfSingle_127 (by rw [pw_1]; exact dy_vf64 (dy_shift hd (by omega) (by omega) (by decide) (by decide) rfl (by omega) (by omega))) ?_
                    refine lv_topd (fun v127 e127 => ?_)
                    refine lv_dstore (lv' := [(4, .double v127), (6, .int ev), (3, .int 0)]) hx hb dX3_bitsOfSingle_128 hl (by decide) rfl (fun ls hl => ?_)
                    obtain ⟨v130, e130⟩ : ∃ y : Int32, y = ev + (-1) := ⟨_, rfl⟩
                    refine lv_iinc (v := v130) (lv' := [(6, .int v130), (4, .double v127), (3, .int 0)]) hx hb dX3_bitsOfSingle_130 hl (k := 1) rfl (by rw [e130]; rfl) (by decide) rfl (fun ls hl => ?_)
                    refine lv_goto (tgt := 113) hx hb dX3_bitsOfSingle_133 (by decide) ?_
                    have hxx : x < 0 := by rw [e118, pw_23] at c119; have := mt (cond_lo hd hC1 hC2 (by omega) (by decide) (by decide)).mpr c119; omega
                    exact ih v130 v127 (x + 1) ls (by omega) (by rw [e130, Int32.toInt_add, he, show (-1 : Int32).toInt = -1 from rfl, Int.bmod_eq_of_le (by omega) (by omega)]; omega) (by omega) (by omega) (by rw [e127, pw_1]; exact dy_shift hd (by omega) (by omega) (by decide) (by decide) rfl (by omega) (by omega)) (lv_sub hl [0, 1, 2] rfl)
              have loop1 : ∀ (j9 : Nat) (ev : Int32) (v : UInt64) (x : Int) (ls : Array Slot), x.toNat < j9 → ev.toInt = Q - x → -149 ≤ x → x ≤ Q → Dy64 v false C x → lv_has ls 7 [(6, .int ev), (4, .double v), (3, .int 0)] → pW yX3_bitsOfSingle cX3_bitsOfSingle 7 (some .int) 1 (.int (m_bos f0)) p l e s m args below meth c (F0 m 90 ls []) := by
                intro j9
                induction j9 with
                | zero =>
                  intro ev v x ls h9
                  exact absurd h9 (Nat.not_lt_zero _)
                | succ j9 ih =>
                  intro ev v x ls hj9 he hx1 hx2 hd hl
                  refine lv_dload hx hb dX3_bitsOfSingle_90 (lv_at hl 1 rfl) ?_
                  refine lv_ldc2d (v := 4715268809856909312) hx hb hown (hts _ q1041) dX3_bitsOfSingle_92 ?_
                  refine lv_dcmp hx hb dX3_bitsOfSingle_95 ?_
                  refine lv_topi (fun v95 e95 => ?_)
                  refine lv_if_lt (tgt := 113) hx hb dX3_bitsOfSingle_96 (by decide) (fun c96 => ?_) (fun c96 => ?_)
                  · have hxx : x < 1 := by rw [e95, pw_24] at c96; exact (cond_hi (P := 24) hd (by decide) hC1 hC2 (by omega) (by decide) (by decide)).mp c96
                    exact loop2 _ ev v x ls (Nat.lt_succ_self _) he (by omega) (by omega) hd (lv_sub hl [0, 1, 2] rfl)
                  · have hxx : 1 ≤ x := by rw [e95, pw_24] at c96; have := mt (cond_hi (P := 24) hd (by decide) hC1 hC2 (by omega) (by decide) (by decide)).mpr c96; omega
                    refine lv_dload hx hb dX3_bitsOfSingle_99 (lv_at hl 1 rfl) ?_
                    refine lv_ldc2d (v := 4602678819172646912) hx hb hown (hts _ q1039) dX3_bitsOfSingle_101 ?_
                    refine lv_dmul hx hb dX3_bitsOfSingle_104 (by rw [pw_m1]; exact dy_vf64 (dy_shift hd (by omega) (by omega) (by decide) (by decide) rfl (by omega) (by omega))) ?_
                    refine lv_topd (fun v104 e104 => ?_)
                    refine lv_dstore (lv' := [(4, .double v104), (6, .int ev), (3, .int 0)]) hx hb dX3_bitsOfSingle_105 hl (by decide) rfl (fun ls hl => ?_)
                    obtain ⟨v107, e107⟩ : ∃ y : Int32, y = ev + 1 := ⟨_, rfl⟩
                    refine lv_iinc (v := v107) (lv' := [(6, .int v107), (4, .double v104), (3, .int 0)]) hx hb dX3_bitsOfSingle_107 hl (k := 1) rfl (by rw [e107]; rfl) (by decide) rfl (fun ls hl => ?_)
                    refine lv_goto (tgt := 90) hx hb dX3_bitsOfSingle_110 (by decide) ?_
                    exact ih v107 v104 (x - 1) ls (by omega) (by rw [e107, Int32.toInt_add, he, show (1 : Int32).toInt = 1 from rfl, Int.bmod_eq_of_le (by omega) (by omega)]; omega) (by omega) (by omega) (by rw [e104, pw_m1]; exact dy_shift hd (by omega) (by omega) (by decide) (by decide) rfl (by omega) (by omega)) (lv_sub hl [0, 1, 2] rfl)
              refine lv_iconst (v := 0) hx hb dX3_bitsOfSingle_87 (by decide) ?_
              refine lv_istore (lv' := [(6, .int 0), (4, .double v33), (3, .int 0), (1, .double v10), (0, .float f0)]) hx hb dX3_bitsOfSingle_88 hl (by decide) rfl (fun ls hl => ?_)
              exact loop1 _ 0 v33 Q ls (Nat.lt_succ_self _) (by rw [Int.sub_self]; rfl) (by omega) (Int.le_refl _) hd (lv_sub hl [0, 1, 2] rfl)
            · have hl23 : f0.toNat % 2 ^ 31 < 2 ^ 23 := by have h2 := mt hcm.mpr c71; omega
              have hsub : Dy64 v33 false (f0.toNat % 2 ^ 31) (-149) := by rcases hmg with ⟨-, q⟩ | ⟨q, -⟩; exact q; omega
              have hs1 := dy_shift (k := 149) (g := 0) hsub (by omega) (by decide) (by decide) (by decide) (by decide) (by decide) (by decide)
              refine lv_iload_n hx hb dX3_bitsOfSingle_74 rfl (lv_at hl 1 rfl) ?_
              refine lv_dload hx hb dX3_bitsOfSingle_75 (lv_at hl 0 rfl) ?_
              refine lv_sipush (v := 149) hx hb dX3_bitsOfSingle_77 (by decide) ?_
              refine pf_S 1 hx hb hml hown hts (As := [.int 149]) (met_X3_power l 149 (by decide) (by decide)) (lw_S q1036 q1037 q28 q1038) (by decide +kernel) rfl ⟨Nat.le_of_ble_eq_true rfl, Nat.le_of_ble_eq_true rfl⟩ hl.1 rfl (Nat.le_of_ble_eq_true rfl) dX3_bitsOfSingle_80 ⟨Nat.le_of_ble_eq_true rfl, Nat.le_of_ble_eq_true rfl⟩ ?_
              refine lv_topd (fun v80 e80 => ?_)
              refine lv_dmul hx hb dX3_bitsOfSingle_83 (by rw [e80]; exact dy_vf64 hs1) ?_
              refine lv_topd (fun v83 e83 => ?_)
              refine lv_d2i hx hb dX3_bitsOfSingle_84 ?_
              refine lv_topi (fun v84 e84 => ?_)
              refine lv_ior hx hb dX3_bitsOfSingle_85 ?_
              refine lv_topi (fun v85 e85 => ?_)
              exact pf_iret hx hb hr hlk dX3_bitsOfSingle_86 (by rw [e85, hsg, e84, e83, e80, show (149 : Int32).toInt = 149 from rfl, d2i_dy hs1 (by omega)]; exact sf_or (i32_ofNat (by omega)) hn)
          · refine lv_iload_n hx hb dX3_bitsOfSingle_58 rfl (lv_at hl 1 rfl) ?_
            refine lv_ldc (v := 2139095040) hx hb hown (hts _ q1035) dX3_bitsOfSingle_59 ?_
            refine lv_ior hx hb dX3_bitsOfSingle_61 ?_
            refine lv_topi (fun v61 e61 => ?_)
            exact pf_iret hx hb hr hlk dX3_bitsOfSingle_62 (by have h9 := (mag_lt_g hv (w := (9218868437227405312 : UInt64)) rfl hlim (by decide)).2.1.mp (by rw [← e54]; exact c55); rw [e61, hsg]; exact sf_or (by rw [hsgn.2.2.mp h9]; rfl) hn)
        · refine lv_iload_n hx hb dX3_bitsOfSingle_47 rfl (lv_at hl 1 rfl) ?_
          exact pf_iret hx hb hr hlk dX3_bitsOfSingle_48 (by rw [hsg]; refine zero_bos (hsgn.2.1.mp ?_); rcases zero_or (by rw [← e43]; exact c44) with q | q <;> (rw [← hmd, q]; rfl))
    · refine lv_ldc (v := (-2147483648)) hx hb hown (hts _ q1033) dX3_bitsOfSingle_19 ?_
      refine lv_goto (tgt := 25) hx hb dX3_bitsOfSingle_21 (by decide) ?_
      have hsg : (-2147483648 : Int32) = m_sf f0 := (below_sf hn).2 (by rw [← e10, ← e13]; exact c16)
      refine lv_istore_n (lv' := [(3, .int (-2147483648)), (1, .double v10), (0, .float f0)]) hx hb dX3_bitsOfSingle_25 rfl hl (by decide) rfl (fun ls hl => ?_)
      refine lv_dload_n hx hb dX3_bitsOfSingle_26 rfl (lv_at hl 1 rfl) ?_
      refine lv_dconst0 hx hb dX3_bitsOfSingle_27 ?_
      refine lv_dcmp hx hb dX3_bitsOfSingle_28 ?_
      refine lv_topi (fun v28 e28 => ?_)
      refine lv_if_ge (tgt := 37) hx hb dX3_bitsOfSingle_29 (by decide) (fun c29 => ?_) (fun c29 => ?_)
      · refine lv_dload_n hx hb dX3_bitsOfSingle_37 rfl (lv_at hl 1 rfl) ?_
        have hab : v10.toNat = v10.toNat % 2 ^ 63 ∨ v10.toNat % 2 ^ 63 = 0 := abs_b hnd (fun q => absurd (i0_ge c29) (by rw [e28]; have := i0_lt q; omega))
        have hmd : v10.toNat % 2 ^ 63 = v10.toNat % 2 ^ 63 := by rfl
        refine lv_dstore (lv' := [(4, .double v10), (3, .int (-2147483648)), (1, .double v10), (0, .float f0)]) hx hb dX3_bitsOfSingle_38 hl (by decide) rfl (fun ls hl => ?_)
        refine lv_dload hx hb dX3_bitsOfSingle_40 (lv_at hl 0 rfl) ?_
        refine lv_dconst0 hx hb dX3_bitsOfSingle_42 ?_
        refine lv_dcmp hx hb dX3_bitsOfSingle_43 ?_
        refine lv_topi (fun v43 e43 => ?_)
        refine lv_if_ne (tgt := 49) hx hb dX3_bitsOfSingle_44 (by decide) (fun c44 => ?_) (fun c44 => ?_)
        · have hnz : v10.toNat % 2 ^ 63 ≠ 0 := by
            intro q
            have h1 : v10 = 0 ∨ v10 = 9223372036854775808 := by rcases Nat.lt_or_ge v10.toNat (2 ^ 63) with r | r; exact Or.inl (UInt64.toNat_inj.mp (show v10.toNat = 0 by omega)); exact Or.inr (UInt64.toNat_inj.mp (show v10.toNat = 9223372036854775808 by have := v10.toNat_lt; omega))
            rcases h1 with h1 | h1 <;> (rw [e43, h1] at c44; exact c44 (by decide +kernel))
          have hv : v10.toNat = v10.toNat % 2 ^ 63 := by omega
          have hlim := num64.mp hnd
          refine lv_dload hx hb dX3_bitsOfSingle_49 (lv_at hl 0 rfl) ?_
          refine lv_ldc2d (v := 9218868437227405312) hx hb hown (hts _ q1034) dX3_bitsOfSingle_51 ?_
          refine lv_dcmp hx hb dX3_bitsOfSingle_54 ?_
          refine lv_topi (fun v54 e54 => ?_)
          refine lv_if_ne (tgt := 63) hx hb dX3_bitsOfSingle_55 (by decide) (fun c55 => ?_) (fun c55 => ?_)
          · have hni : v10.toNat % 2 ^ 63 ≠ 9218868437227405312 := fun q => c55 (by rw [e54]; exact (mag_lt_g hv (w := 9218868437227405312) rfl hlim (by decide)).2.1.mpr q)
            have hlim2 := num32.mp hn
            have hni2 : f0.toNat % 2 ^ 31 < 2139095040 := by have : f0.toNat % 2 ^ 31 ≠ 2139095040 := fun q => hni (hsgn.2.2.mpr q); omega
            have hmg := single_mag (by rw [← e10]; exact hv) hni2
            refine lv_dload hx hb dX3_bitsOfSingle_63 (lv_at hl 0 rfl) ?_
            refine lv_bipush (v := -126) hx hb dX3_bitsOfSingle_65 (by decide) ?_
            refine pf_S 1 hx hb hml hown hts (As := [.int (-126)]) (met_X3_power l (-126) (by decide) (by decide)) (lw_S q1036 q1037 q28 q1038) (by decide +kernel) rfl ⟨Nat.le_of_ble_eq_true rfl, Nat.le_of_ble_eq_true rfl⟩ hl.1 rfl (Nat.le_of_ble_eq_true rfl) dX3_bitsOfSingle_67 ⟨Nat.le_of_ble_eq_true rfl, Nat.le_of_ble_eq_true rfl⟩ ?_
            refine lv_topd (fun v67 e67 => ?_)
            refine lv_dcmp hx hb dX3_bitsOfSingle_70 ?_
            refine lv_topi (fun v70 e70 => ?_)
            have hcm : v70 ≥ 0 ↔ 2 ^ 23 ≤ f0.toNat % 2 ^ 31 := by rw [e70, e67]; exact cond_sub hmg
            refine lv_if_ge (tgt := 87) hx hb dX3_bitsOfSingle_71 (by decide) (fun c71 => ?_) (fun c71 => ?_)
            · have hge : 2 ^ 23 ≤ f0.toNat % 2 ^ 31 := hcm.mp c71
              obtain ⟨C, Q, hd, hC1, hC2, hQ1, hQ2, hn9⟩ : ∃ (C : Nat) (Q : Int), Dy64 v10 false C Q ∧ 2 ^ 23 ≤ C ∧ C < 2 ^ 24 ∧ -149 ≤ Q ∧ Q ≤ 104 ∧ (((f0.toNat % 2 ^ 31 : Nat)) : Int) = (Q + 150) * 2 ^ 23 + (C - 2 ^ 23) := by rcases hmg with ⟨q, -⟩ | ⟨-, q⟩; omega; exact q
              have loop2 : ∀ (j9 : Nat) (ev : Int32) (v : UInt64) (x : Int) (ls : Array Slot), (-x).toNat < j9 → ev.toInt = Q - x → -149 ≤ x → x ≤ 0 → Dy64 v false C x → lv_has ls 7 [(6, .int ev), (4, .double v), (3, .int (-2147483648))] → pW yX3_bitsOfSingle cX3_bitsOfSingle 7 (some .int) 1 (.int (m_bos f0)) p l e s m args below meth c (F0 m 113 ls []) := by
                intro j9
                induction j9 with
                | zero =>
                  intro ev v x ls h9
                  exact absurd h9 (Nat.not_lt_zero _)
                | succ j9 ih =>
                  intro ev v x ls hj9 he hx1 hx2 hd hl
                  refine lv_dload hx hb dX3_bitsOfSingle_113 (lv_at hl 1 rfl) ?_
                  refine lv_ldc2d (v := 4710765210229538816) hx hb hown (hts _ q1042) dX3_bitsOfSingle_115 ?_
                  refine lv_dcmp hx hb dX3_bitsOfSingle_118 ?_
                  refine lv_topi (fun v118 e118 => ?_)
                  refine lv_if_ge (tgt := 136) hx hb dX3_bitsOfSingle_119 (by decide) (fun c119 => ?_) (fun c119 => ?_)
                  · have hx0 : x = 0 := by rw [e118, pw_23] at c119; have := (cond_lo hd hC1 hC2 (by omega) (by decide) (by decide)).mp c119; omega
                    rw [hx0] at hd he
                    refine lv_iload_n hx hb dX3_bitsOfSingle_136 rfl (lv_at hl 2 rfl) ?_
                    refine lv_iload hx hb dX3_bitsOfSingle_137 (lv_at hl 0 rfl) ?_
                    refine lv_sipush (v := 150) hx hb dX3_bitsOfSingle_139 (by decide) ?_
                    refine lv_iadd hx hb dX3_bitsOfSingle_142 ?_
                    refine lv_topi (fun v142 e142 => ?_)
                    refine lv_bipush (v := 23) hx hb dX3_bitsOfSingle_143 (by decide) ?_
                    refine lv_ishl hx hb dX3_bitsOfSingle_145 ?_
                    refine lv_topi (fun v145 e145 => ?_)
                    refine lv_ior hx hb dX3_bitsOfSingle_146 ?_
                    refine lv_topi (fun v146 e146 => ?_)
                    refine lv_dload hx hb dX3_bitsOfSingle_147 (lv_at hl 1 rfl) ?_
                    refine lv_d2i hx hb dX3_bitsOfSingle_149 ?_
                    refine lv_topi (fun v149 e149 => ?_)
                    refine lv_ldc (v := 8388607) hx hb hown (hts _ q1043) dX3_bitsOfSingle_150 ?_
                    refine lv_iand hx hb dX3_bitsOfSingle_152 ?_
                    refine lv_topi (fun v152 e152 => ?_)
                    refine lv_ior hx hb dX3_bitsOfSingle_153 ?_
                    refine lv_topi (fun v153 e153 => ?_)
                    exact pf_iret hx hb hr hlk dX3_bitsOfSingle_154 (by rw [e153, e146, hsg, e145, e142, e152, e149, d2i_dy hd (by omega)]; exact put32 hn hC1 hC2 hQ1 hQ2 hn9 (by omega))
                  · have hxx : x < 0 := by rw [e118, pw_23] at c119; have := mt (cond_lo hd hC1 hC2 (by omega) (by decide) (by decide)).mpr c119; omega
                    refine lv_dload hx hb dX3_bitsOfSingle_122 (lv_at hl 1 rfl) ?_
                    refine lv_ldc2d (v := 4611686018427387904) hx hb hown (hts _ q1040) dX3_bitsOfSingle_124 ?_
                    refine lv_dmul hx hb dX3_bitsOfSingle_127 (by rw [pw_1]; exact dy_vf64 (dy_shift hd (by omega) (by omega) (by decide) (by decide) rfl (by omega) (by omega))) ?_
                    refine lv_topd (fun v127 e127 => ?_)
                    refine lv_dstore (lv' := [(4, .double v127), (6, .int ev), (3, .int (-2147483648))]) hx hb dX3_bitsOfSingle_128 hl (by decide) rfl (fun ls hl => ?_)
                    obtain ⟨v130, e130⟩ : ∃ y : Int32, y = ev + (-1) := ⟨_, rfl⟩
                    refine lv_iinc (v := v130) (lv' := [(6, .int v130), (4, .double v127), (3, .int (-2147483648))]) hx hb dX3_bitsOfSingle_130 hl (k := 1) rfl (by rw [e130]; rfl) (by decide) rfl (fun ls hl => ?_)
                    refine lv_goto (tgt := 113) hx hb dX3_bitsOfSingle_133 (by decide) ?_
                    have hxx : x < 0 := by rw [e118, pw_23] at c119; have := mt (cond_lo hd hC1 hC2 (by omega) (by decide) (by decide)).mpr c119; omega
                    exact ih v130 v127 (x + 1) ls (by omega) (by rw [e130, Int32.toInt_add, he, show (-1 : Int32).toInt = -1 from rfl, Int.bmod_eq_of_le (by omega) (by omega)]; omega) (by omega) (by omega) (by rw [e127, pw_1]; exact dy_shift hd (by omega) (by omega) (by decide) (by decide) rfl (by omega) (by omega)) (lv_sub hl [0, 1, 2] rfl)
              have loop1 : ∀ (j9 : Nat) (ev : Int32) (v : UInt64) (x : Int) (ls : Array Slot), x.toNat < j9 → ev.toInt = Q - x → -149 ≤ x → x ≤ Q → Dy64 v false C x → lv_has ls 7 [(6, .int ev), (4, .double v), (3, .int (-2147483648))] → pW yX3_bitsOfSingle cX3_bitsOfSingle 7 (some .int) 1 (.int (m_bos f0)) p l e s m args below meth c (F0 m 90 ls []) := by
                intro j9
                induction j9 with
                | zero =>
                  intro ev v x ls h9
                  exact absurd h9 (Nat.not_lt_zero _)
                | succ j9 ih =>
                  intro ev v x ls hj9 he hx1 hx2 hd hl
                  refine lv_dload hx hb dX3_bitsOfSingle_90 (lv_at hl 1 rfl) ?_
                  refine lv_ldc2d (v := 4715268809856909312) hx hb hown (hts _ q1041) dX3_bitsOfSingle_92 ?_
                  refine lv_dcmp hx hb dX3_bitsOfSingle_95 ?_
                  refine lv_topi (fun v95 e95 => ?_)
                  refine lv_if_lt (tgt := 113) hx hb dX3_bitsOfSingle_96 (by decide) (fun c96 => ?_) (fun c96 => ?_)
                  · have hxx : x < 1 := by rw [e95, pw_24] at c96; exact (cond_hi (P := 24) hd (by decide) hC1 hC2 (by omega) (by decide) (by decide)).mp c96
                    exact loop2 _ ev v x ls (Nat.lt_succ_self _) he (by omega) (by omega) hd (lv_sub hl [0, 1, 2] rfl)
                  · have hxx : 1 ≤ x := by rw [e95, pw_24] at c96; have := mt (cond_hi (P := 24) hd (by decide) hC1 hC2 (by omega) (by decide) (by decide)).mpr c96; omega
                    refine lv_dload hx hb dX3_bitsOfSingle_99 (lv_at hl 1 rfl) ?_
                    refine lv_ldc2d (v := 4602678819172646912) hx hb hown (hts _ q1039) dX3_bitsOfSingle_101 ?_
                    refine lv_dmul hx hb dX3_bitsOfSingle_104 (by rw [pw_m1]; exact dy_vf64 (dy_shift hd (by omega) (by omega) (by decide) (by decide) rfl (by omega) (by omega))) ?_
                    refine lv_topd (fun v104 e104 => ?_)
                    refine lv_dstore (lv' := [(4, .double v104), (6, .int ev), (3, .int (-2147483648))]) hx hb dX3_bitsOfSingle_105 hl (by decide) rfl (fun ls hl => ?_)
                    obtain ⟨v107, e107⟩ : ∃ y : Int32, y = ev + 1 := ⟨_, rfl⟩
                    refine lv_iinc (v := v107) (lv' := [(6, .int v107), (4, .double v104), (3, .int (-2147483648))]) hx hb dX3_bitsOfSingle_107 hl (k := 1) rfl (by rw [e107]; rfl) (by decide) rfl (fun ls hl => ?_)
                    refine lv_goto (tgt := 90) hx hb dX3_bitsOfSingle_110 (by decide) ?_
                    exact ih v107 v104 (x - 1) ls (by omega) (by rw [e107, Int32.toInt_add, he, show (1 : Int32).toInt = 1 from rfl, Int.bmod_eq_of_le (by omega) (by omega)]; omega) (by omega) (by omega) (by rw [e104, pw_m1]; exact dy_shift hd (by omega) (by omega) (by decide) (by decide) rfl (by omega) (by omega)) (lv_sub hl [0, 1, 2] rfl)
              refine lv_iconst (v := 0) hx hb dX3_bitsOfSingle_87 (by decide) ?_
              refine lv_istore (lv' := [(6, .int 0), (4, .double v10), (3, .int (-2147483648)), (1, .double v10), (0, .float f0)]) hx hb dX3_bitsOfSingle_88 hl (by decide) rfl (fun ls hl => ?_)
              exact loop1 _ 0 v10 Q ls (Nat.lt_succ_self _) (by rw [Int.sub_self]; rfl) (by omega) (Int.le_refl _) hd (lv_sub hl [0, 1, 2] rfl)
            · have hl23 : f0.toNat % 2 ^ 31 < 2 ^ 23 := by have h2 := mt hcm.mpr c71; omega
              have hsub : Dy64 v10 false (f0.toNat % 2 ^ 31) (-149) := by rcases hmg with ⟨-, q⟩ | ⟨q, -⟩; exact q; omega
              have hs1 := dy_shift (k := 149) (g := 0) hsub (by omega) (by decide) (by decide) (by decide) (by decide) (by decide) (by decide)
              refine lv_iload_n hx hb dX3_bitsOfSingle_74 rfl (lv_at hl 1 rfl) ?_
              refine lv_dload hx hb dX3_bitsOfSingle_75 (lv_at hl 0 rfl) ?_
              refine lv_sipush (v := 149) hx hb dX3_bitsOfSingle_77 (by decide) ?_
              refine pf_S 1 hx hb hml hown hts (As := [.int 149]) (met_X3_power l 149 (by decide) (by decide)) (lw_S q1036 q1037 q28 q1038) (by decide +kernel) rfl ⟨Nat.le_of_ble_eq_true rfl, Nat.le_of_ble_eq_true rfl⟩ hl.1 rfl (Nat.le_of_ble_eq_true rfl) dX3_bitsOfSingle_80 ⟨Nat.le_of_ble_eq_true rfl, Nat.le_of_ble_eq_true rfl⟩ ?_
              refine lv_topd (fun v80 e80 => ?_)
              refine lv_dmul hx hb dX3_bitsOfSingle_83 (by rw [e80]; exact dy_vf64 hs1) ?_
              refine lv_topd (fun v83 e83 => ?_)
              refine lv_d2i hx hb dX3_bitsOfSingle_84 ?_
              refine lv_topi (fun v84 e84 => ?_)
              refine lv_ior hx hb dX3_bitsOfSingle_85 ?_
              refine lv_topi (fun v85 e85 => ?_)
              exact pf_iret hx hb hr hlk dX3_bitsOfSingle_86 (by rw [e85, hsg, e84, e83, e80, show (149 : Int32).toInt = 149 from rfl, d2i_dy hs1 (by omega)]; exact sf_or (i32_ofNat (by omega)) hn)
          · refine lv_iload_n hx hb dX3_bitsOfSingle_58 rfl (lv_at hl 1 rfl) ?_
            refine lv_ldc (v := 2139095040) hx hb hown (hts _ q1035) dX3_bitsOfSingle_59 ?_
            refine lv_ior hx hb dX3_bitsOfSingle_61 ?_
            refine lv_topi (fun v61 e61 => ?_)
            exact pf_iret hx hb hr hlk dX3_bitsOfSingle_62 (by have h9 := (mag_lt_g hv (w := (9218868437227405312 : UInt64)) rfl hlim (by decide)).2.1.mp (by rw [← e54]; exact c55); rw [e61, hsg]; exact sf_or (by rw [hsgn.2.2.mp h9]; rfl) hn)
        · refine lv_iload_n hx hb dX3_bitsOfSingle_47 rfl (lv_at hl 1 rfl) ?_
          exact pf_iret hx hb hr hlk dX3_bitsOfSingle_48 (by rw [hsg]; refine zero_bos (hsgn.2.1.mp ?_); rcases zero_or (by rw [← e43]; exact c44) with q | q <;> (rw [← hmd, q]; rfl))
      · refine lv_dload_n hx hb dX3_bitsOfSingle_32 rfl (lv_at hl 1 rfl) ?_
        refine lv_dneg hx hb dX3_bitsOfSingle_33 ?_
        refine lv_topd (fun v33 e33 => ?_)
        refine lv_goto (tgt := 38) hx hb dX3_bitsOfSingle_34 (by decide) ?_
        have hab : v33.toNat = v10.toNat % 2 ^ 63 ∨ v10.toNat % 2 ^ 63 = 0 := Or.inl (by rw [e33]; exact abs_a (Int32.lt_iff_toInt_lt.mpr (by rw [← e28]; exact i0_nge c29)))
        have hmd : v33.toNat % 2 ^ 63 = v10.toNat % 2 ^ 63 := by have := i0_nge c29; have h2 := abs_a (d := v10) (Int32.lt_iff_toInt_lt.mpr (by rw [← e28]; exact this)); rw [← e33] at h2; omega
        refine lv_dstore (lv' := [(4, .double v33), (3, .int (-2147483648)), (1, .double v10), (0, .float f0)]) hx hb dX3_bitsOfSingle_38 hl (by decide) rfl (fun ls hl => ?_)
        refine lv_dload hx hb dX3_bitsOfSingle_40 (lv_at hl 0 rfl) ?_
        refine lv_dconst0 hx hb dX3_bitsOfSingle_42 ?_
        refine lv_dcmp hx hb dX3_bitsOfSingle_43 ?_
        refine lv_topi (fun v43 e43 => ?_)
        refine lv_if_ne (tgt := 49) hx hb dX3_bitsOfSingle_44 (by decide) (fun c44 => ?_) (fun c44 => ?_)
        · have hnz : v10.toNat % 2 ^ 63 ≠ 0 := by
            intro q
            have h1 : v33 = 0 ∨ v33 = 9223372036854775808 := by rcases Nat.lt_or_ge v33.toNat (2 ^ 63) with r | r; exact Or.inl (UInt64.toNat_inj.mp (show v33.toNat = 0 by omega)); exact Or.inr (UInt64.toNat_inj.mp (show v33.toNat = 9223372036854775808 by have := v33.toNat_lt; omega))
            rcases h1 with h1 | h1 <;> (rw [e43, h1] at c44; exact c44 (by decide +kernel))
          have hv : v33.toNat = v10.toNat % 2 ^ 63 := by omega
          have hlim := num64.mp hnd
          refine lv_dload hx hb dX3_bitsOfSingle_49 (lv_at hl 0 rfl) ?_
          refine lv_ldc2d (v := 9218868437227405312) hx hb hown (hts _ q1034) dX3_bitsOfSingle_51 ?_
          refine lv_dcmp hx hb dX3_bitsOfSingle_54 ?_
          refine lv_topi (fun v54 e54 => ?_)
          refine lv_if_ne (tgt := 63) hx hb dX3_bitsOfSingle_55 (by decide) (fun c55 => ?_) (fun c55 => ?_)
          · have hni : v10.toNat % 2 ^ 63 ≠ 9218868437227405312 := fun q => c55 (by rw [e54]; exact (mag_lt_g hv (w := 9218868437227405312) rfl hlim (by decide)).2.1.mpr q)
            have hlim2 := num32.mp hn
            have hni2 : f0.toNat % 2 ^ 31 < 2139095040 := by have : f0.toNat % 2 ^ 31 ≠ 2139095040 := fun q => hni (hsgn.2.2.mpr q); omega
            have hmg := single_mag (by rw [← e10]; exact hv) hni2
            refine lv_dload hx hb dX3_bitsOfSingle_63 (lv_at hl 0 rfl) ?_
            refine lv_bipush (v := -126) hx hb dX3_bitsOfSingle_65 (by decide) ?_
            refine pf_S 1 hx hb hml hown hts (As := [.int (-126)]) (met_X3_power l (-126) (by decide) (by decide)) (lw_S q1036 q1037 q28 q1038) (by decide +kernel) rfl ⟨Nat.le_of_ble_eq_true rfl, Nat.le_of_ble_eq_true rfl⟩ hl.1 rfl (Nat.le_of_ble_eq_true rfl) dX3_bitsOfSingle_67 ⟨Nat.le_of_ble_eq_true rfl, Nat.le_of_ble_eq_true rfl⟩ ?_
            refine lv_topd (fun v67 e67 => ?_)
            refine lv_dcmp hx hb dX3_bitsOfSingle_70 ?_
            refine lv_topi (fun v70 e70 => ?_)
            have hcm : v70 ≥ 0 ↔ 2 ^ 23 ≤ f0.toNat % 2 ^ 31 := by rw [e70, e67]; exact cond_sub hmg
            refine lv_if_ge (tgt := 87) hx hb dX3_bitsOfSingle_71 (by decide) (fun c71 => ?_) (fun c71 => ?_)
            · have hge : 2 ^ 23 ≤ f0.toNat % 2 ^ 31 := hcm.mp c71
              obtain ⟨C, Q, hd, hC1, hC2, hQ1, hQ2, hn9⟩ : ∃ (C : Nat) (Q : Int), Dy64 v33 false C Q ∧ 2 ^ 23 ≤ C ∧ C < 2 ^ 24 ∧ -149 ≤ Q ∧ Q ≤ 104 ∧ (((f0.toNat % 2 ^ 31 : Nat)) : Int) = (Q + 150) * 2 ^ 23 + (C - 2 ^ 23) := by rcases hmg with ⟨q, -⟩ | ⟨-, q⟩; omega; exact q
              have loop2 : ∀ (j9 : Nat) (ev : Int32) (v : UInt64) (x : Int) (ls : Array Slot), (-x).toNat < j9 → ev.toInt = Q - x → -149 ≤ x → x ≤ 0 → Dy64 v false C x → lv_has ls 7 [(6, .int ev), (4, .double v), (3, .int (-2147483648))] → pW yX3_bitsOfSingle cX3_bitsOfSingle 7 (some .int) 1 (.int (m_bos f0)) p l e s m args below meth c (F0 m 113 ls []) := by
                intro j9
                induction j9 with
                | zero =>
                  intro ev v x ls h9
                  exact absurd h9 (Nat.not_lt_zero _)
                | succ j9 ih =>
                  intro ev v x ls hj9 he hx1 hx2 hd hl
                  refine lv_dload hx hb dX3_bitsOfSingle_113 (lv_at hl 1 rfl) ?_
                  refine lv_ldc2d (v := 4710765210229538816) hx hb hown (hts _ q1042) dX3_bitsOfSingle_115 ?_
                  refine lv_dcmp hx hb dX3_bitsOfSingle_118 ?_
                  refine lv_topi (fun v118 e118 => ?_)
                  refine lv_if_ge (tgt := 136) hx hb dX3_bitsOfSingle_119 (by decide) (fun c119 => ?_) (fun c119 => ?_)
                  · have hx0 : x = 0 := by rw [e118, pw_23] at c119; have := (cond_lo hd hC1 hC2 (by omega) (by decide) (by decide)).mp c119; omega
                    rw [hx0] at hd he
                    refine lv_iload_n hx hb dX3_bitsOfSingle_136 rfl (lv_at hl 2 rfl) ?_
                    refine lv_iload hx hb dX3_bitsOfSingle_137 (lv_at hl 0 rfl) ?_
                    refine lv_sipush (v := 150) hx hb dX3_bitsOfSingle_139 (by decide) ?_
                    refine lv_iadd hx hb dX3_bitsOfSingle_142 ?_
                    refine lv_topi (fun v142 e142 => ?_)
                    refine lv_bipush (v := 23) hx hb dX3_bitsOfSingle_143 (by decide) ?_
                    refine lv_ishl hx hb dX3_bitsOfSingle_145 ?_
                    refine lv_topi (fun v145 e145 => ?_)
                    refine lv_ior hx hb dX3_bitsOfSingle_146 ?_
                    refine lv_topi (fun v146 e146 => ?_)
                    refine lv_dload hx hb dX3_bitsOfSingle_147 (lv_at hl 1 rfl) ?_
                    refine lv_d2i hx hb dX3_bitsOfSingle_149 ?_
                    refine lv_topi (fun v149 e149 => ?_)
                    refine lv_ldc (v := 8388607) hx hb hown (hts _ q1043) dX3_bitsOfSingle_150 ?_
                    refine lv_iand hx hb dX3_bitsOfSingle_152 ?_
                    refine lv_topi (fun v152 e152 => ?_)
                    refine lv_ior hx hb dX3_bitsOfSingle_153 ?_
                    refine lv_topi (fun v153 e153 => ?_)
                    exact pf_iret hx hb hr hlk dX3_bitsOfSingle_154 (by rw [e153, e146, hsg, e145, e142, e152, e149, d2i_dy hd (by omega)]; exact put32 hn hC1 hC2 hQ1 hQ2 hn9 (by omega))
                  · have hxx : x < 0 := by rw [e118, pw_23] at c119; have := mt (cond_lo hd hC1 hC2 (by omega) (by decide) (by decide)).mpr c119; omega
                    refine lv_dload hx hb dX3_bitsOfSingle_122 (lv_at hl 1 rfl) ?_
                    refine lv_ldc2d (v := 4611686018427387904) hx hb hown (hts _ q1040) dX3_bitsOfSingle_124 ?_
                    refine lv_dmul hx hb dX3_bitsOfSingle_127 (by rw [pw_1]; exact dy_vf64 (dy_shift hd (by omega) (by omega) (by decide) (by decide) rfl (by omega) (by omega))) ?_
                    refine lv_topd (fun v127 e127 => ?_)
                    refine lv_dstore (lv' := [(4, .double v127), (6, .int ev), (3, .int (-2147483648))]) hx hb dX3_bitsOfSingle_128 hl (by decide) rfl (fun ls hl => ?_)
                    obtain ⟨v130, e130⟩ : ∃ y : Int32, y = ev + (-1) := ⟨_, rfl⟩
                    refine lv_iinc (v := v130) (lv' := [(6, .int v130), (4, .double v127), (3, .int (-2147483648))]) hx hb dX3_bitsOfSingle_130 hl (k := 1) rfl (by rw [e130]; rfl) (by decide) rfl (fun ls hl => ?_)
                    refine lv_goto (tgt := 113) hx hb dX3_bitsOfSingle_133 (by decide) ?_
                    have hxx : x < 0 := by rw [e118, pw_23] at c119; have := mt (cond_lo hd hC1 hC2 (by omega) (by decide) (by decide)).mpr c119; omega
                    exact ih v130 v127 (x + 1) ls (by omega) (by rw [e130, Int32.toInt_add, he, show (-1 : Int32).toInt = -1 from rfl, Int.bmod_eq_of_le (by omega) (by omega)]; omega) (by omega) (by omega) (by rw [e127, pw_1]; exact dy_shift hd (by omega) (by omega) (by decide) (by decide) rfl (by omega) (by omega)) (lv_sub hl [0, 1, 2] rfl)
              have loop1 : ∀ (j9 : Nat) (ev : Int32) (v : UInt64) (x : Int) (ls : Array Slot), x.toNat < j9 → ev.toInt = Q - x → -149 ≤ x → x ≤ Q → Dy64 v false C x → lv_has ls 7 [(6, .int ev), (4, .double v), (3, .int (-2147483648))] → pW yX3_bitsOfSingle cX3_bitsOfSingle 7 (some .int) 1 (.int (m_bos f0)) p l e s m args below meth c (F0 m 90 ls []) := by
                intro j9
                induction j9 with
                | zero =>
                  intro ev v x ls h9
                  exact absurd h9 (Nat.not_lt_zero _)
                | succ j9 ih =>
                  intro ev v x ls hj9 he hx1 hx2 hd hl
                  refine lv_dload hx hb dX3_bitsOfSingle_90 (lv_at hl 1 rfl) ?_
                  refine lv_ldc2d (v := 4715268809856909312) hx hb hown (hts _ q1041) dX3_bitsOfSingle_92 ?_
                  refine lv_dcmp hx hb dX3_bitsOfSingle_95 ?_
                  refine lv_topi (fun v95 e95 => ?_)
                  refine lv_if_lt (tgt := 113) hx hb dX3_bitsOfSingle_96 (by decide) (fun c96 => ?_) (fun c96 => ?_)
                  · have hxx : x < 1 := by rw [e95, pw_24] at c96; exact (cond_hi (P := 24) hd (by decide) hC1 hC2 (by omega) (by decide) (by decide)).mp c96
                    exact loop2 _ ev v x ls (Nat.lt_succ_self _) he (by omega) (by omega) hd (lv_sub hl [0, 1, 2] rfl)
                  · have hxx : 1 ≤ x := by rw [e95, pw_24] at c96; have := mt (cond_hi (P := 24) hd (by decide) hC1 hC2 (by omega) (by decide) (by decide)).mpr c96; omega
                    refine lv_dload hx hb dX3_bitsOfSingle_99 (lv_at hl 1 rfl) ?_
                    refine lv_ldc2d (v := 4602678819172646912) hx hb hown (hts _ q1039) dX3_bitsOfSingle_101 ?_
                    refine lv_dmul hx hb dX3_bitsOfSingle_104 (by rw [pw_m1]; exact dy_vf64 (dy_shift hd (by omega) (by omega) (by decide) (by decide) rfl (by omega) (by omega))) ?_
                    refine lv_topd (fun v104 e104 => ?_)
                    refine lv_dstore (lv' := [(4, .double v104), (6, .int ev), (3, .int (-2147483648))]) hx hb dX3_bitsOfSingle_105 hl (by decide) rfl (fun ls hl => ?_)
                    obtain ⟨v107, e107⟩ : ∃ y : Int32, y = ev + 1 := ⟨_, rfl⟩
                    refine lv_iinc (v := v107) (lv' := [(6, .int v107), (4, .double v104), (3, .int (-2147483648))]) hx hb dX3_bitsOfSingle_107 hl (k := 1) rfl (by rw [e107]; rfl) (by decide) rfl (fun ls hl => ?_)
                    refine lv_goto (tgt := 90) hx hb dX3_bitsOfSingle_110 (by decide) ?_
                    exact ih v107 v104 (x - 1) ls (by omega) (by rw [e107, Int32.toInt_add, he, show (1 : Int32).toInt = 1 from rfl, Int.bmod_eq_of_le (by omega) (by omega)]; omega) (by omega) (by omega) (by rw [e104, pw_m1]; exact dy_shift hd (by omega) (by omega) (by decide) (by decide) rfl (by omega) (by omega)) (lv_sub hl [0, 1, 2] rfl)
              refine lv_iconst (v := 0) hx hb dX3_bitsOfSingle_87 (by decide) ?_
              refine lv_istore (lv' := [(6, .int 0), (4, .double v33), (3, .int (-2147483648)), (1, .double v10), (0, .float f0)]) hx hb dX3_bitsOfSingle_88 hl (by decide) rfl (fun ls hl => ?_)
              exact loop1 _ 0 v33 Q ls (Nat.lt_succ_self _) (by rw [Int.sub_self]; rfl) (by omega) (Int.le_refl _) hd (lv_sub hl [0, 1, 2] rfl)
            · have hl23 : f0.toNat % 2 ^ 31 < 2 ^ 23 := by have h2 := mt hcm.mpr c71; omega
              have hsub : Dy64 v33 false (f0.toNat % 2 ^ 31) (-149) := by rcases hmg with ⟨-, q⟩ | ⟨q, -⟩; exact q; omega
              have hs1 := dy_shift (k := 149) (g := 0) hsub (by omega) (by decide) (by decide) (by decide) (by decide) (by decide) (by decide)
              refine lv_iload_n hx hb dX3_bitsOfSingle_74 rfl (lv_at hl 1 rfl) ?_
              refine lv_dload hx hb dX3_bitsOfSingle_75 (lv_at hl 0 rfl) ?_
              refine lv_sipush (v := 149) hx hb dX3_bitsOfSingle_77 (by decide) ?_
              refine pf_S 1 hx hb hml hown hts (As := [.int 149]) (met_X3_power l 149 (by decide) (by decide)) (lw_S q1036 q1037 q28 q1038) (by decide +kernel) rfl ⟨Nat.le_of_ble_eq_true rfl, Nat.le_of_ble_eq_true rfl⟩ hl.1 rfl (Nat.le_of_ble_eq_true rfl) dX3_bitsOfSingle_80 ⟨Nat.le_of_ble_eq_true rfl, Nat.le_of_ble_eq_true rfl⟩ ?_
              refine lv_topd (fun v80 e80 => ?_)
              refine lv_dmul hx hb dX3_bitsOfSingle_83 (by rw [e80]; exact dy_vf64 hs1) ?_
              refine lv_topd (fun v83 e83 => ?_)
              refine lv_d2i hx hb dX3_bitsOfSingle_84 ?_
              refine lv_topi (fun v84 e84 => ?_)
              refine lv_ior hx hb dX3_bitsOfSingle_85 ?_
              refine lv_topi (fun v85 e85 => ?_)
              exact pf_iret hx hb hr hlk dX3_bitsOfSingle_86 (by rw [e85, hsg, e84, e83, e80, show (149 : Int32).toInt = 149 from rfl, d2i_dy hs1 (by omega)]; exact sf_or (i32_ofNat (by omega)) hn)
          · refine lv_iload_n hx hb dX3_bitsOfSingle_58 rfl (lv_at hl 1 rfl) ?_
            refine lv_ldc (v := 2139095040) hx hb hown (hts _ q1035) dX3_bitsOfSingle_59 ?_
            refine lv_ior hx hb dX3_bitsOfSingle_61 ?_
            refine lv_topi (fun v61 e61 => ?_)
            exact pf_iret hx hb hr hlk dX3_bitsOfSingle_62 (by have h9 := (mag_lt_g hv (w := (9218868437227405312 : UInt64)) rfl hlim (by decide)).2.1.mp (by rw [← e54]; exact c55); rw [e61, hsg]; exact sf_or (by rw [hsgn.2.2.mp h9]; rfl) hn)
        · refine lv_iload_n hx hb dX3_bitsOfSingle_47 rfl (lv_at hl 1 rfl) ?_
          exact pf_iret hx hb hr hlk dX3_bitsOfSingle_48 (by rw [hsg]; refine zero_bos (hsgn.2.1.mp ?_); rcases zero_or (by rw [← e43]; exact c44) with q | q <;> (rw [← hmd, q]; rfl))
  · refine lv_ldc (v := 2143289344) hx hb hown (hts _ q1029) dX3_bitsOfSingle_6 ?_
    exact pf_iret hx hb hr hlk dX3_bitsOfSingle_8 (by unfold m_bos; rw [if_pos]; have h1 : FV32 f0 = .nan := Decidable.byContradiction fun q => c3 (by rw [e2]; exact cv_eq_l.mpr (fc_self32.mpr q)); exact (nan_iff32 f0).mp h1)
