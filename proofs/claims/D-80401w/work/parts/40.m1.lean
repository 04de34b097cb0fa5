/-! the reference's pure methods on kinds and whole numbers -/
set_option maxRecDepth 100000
def m_isIn (v a b : Int32) : Int32 := if v < a then 0 else if b < v then 0 else 1
def m_isWider (r k : Int32) : Int32 := if r = k then 1 else if r = 0 then 0 else if k = 0 then 0 else if k = 1 then (if r = 3 then 1 else if r < 4 then 0 else 1) else if k = 2 then (if r < 4 then 0 else 1) else if k = 3 then (if r < 4 then 0 else 1) else if r ≤ k then 0 else 1
def m_isSort (sort what : Int32) : Int32 := if what = 16 then m_isIn sort 11 14 else if what = 17 then (if sort = 12 then 1 else if sort = 13 then 1 else 0) else if sort = what then 1 else if what = 9 ∧ sort = 10 then 1 else if what = 11 ∧ (sort = 12 ∨ sort = 13) then 1 else if what = 12 ∧ sort = 13 then 1 else 0

set_option maxHeartbeats 4000000 in
theorem met_X3_isIn (l : Launch) (v : Int32) (a : Int32) (b : Int32) : PF l yX3_isIn cX3_isIn 3 (some .boolean) 0 [.int v, .int a, .int b] (.int (m_isIn v a b)) := by
  refine pf_of (by decide) (Nat.le_of_ble_eq_true rfl) ?_
  intro p e s m args below meth c ls hx hb hr hts hown hlk hml hl
  have hl : lv_has ls 3 [(0, .int v), (1, .int a), (2, .int b)] := hl
  refine lv_iload_n hx hb dX3_isIn_0 rfl (lv_at hl 0 rfl) ?_
  refine lv_iload_n hx hb dX3_isIn_1 rfl (lv_at hl 1 rfl) ?_
  refine lv_icmp_lt (tgt := 14) hx hb dX3_isIn_2 (by decide) (fun c2 => ?_) (fun c2 => ?_)
  · refine lv_iconst (v := 0) hx hb dX3_isIn_14 (by decide) ?_
    exact pf_zret hx hb hr hlk dX3_isIn_15 rfl (by simp only [m_isIn, c2, if_true, if_false])
  · refine lv_iload_n hx hb dX3_isIn_5 rfl (lv_at hl 0 rfl) ?_
    refine lv_iload_n hx hb dX3_isIn_6 rfl (lv_at hl 2 rfl) ?_
    refine lv_icmp_gt (tgt := 14) hx hb dX3_isIn_7 (by decide) (fun c7 => ?_) (fun c7 => ?_)
    · refine lv_iconst (v := 0) hx hb dX3_isIn_14 (by decide) ?_
      exact pf_zret hx hb hr hlk dX3_isIn_15 rfl (by simp only [m_isIn, c2, c7, if_true, if_false])
    · refine lv_iconst (v := 1) hx hb dX3_isIn_10 (by decide) ?_
      refine lv_goto (tgt := 15) hx hb dX3_isIn_11 (by decide) ?_
      exact pf_zret hx hb hr hlk dX3_isIn_15 rfl (by simp only [m_isIn, c2, c7, if_true, if_false])
set_option maxHeartbeats 4000000 in
theorem met_X3_isWider (l : Launch) (r : Int32) (k : Int32) : PF l yX3_isWider cX3_isWider 2 (some .boolean) 0 [.int r, .int k] (.int (m_isWider r k)) := by
  refine pf_of (by decide) (Nat.le_of_ble_eq_true rfl) ?_
  intro p e s m args below meth c ls hx hb hr hts hown hlk hml hl
  have hl : lv_has ls 2 [(0, .int r), (1, .int k)] := hl
  refine lv_iload_n hx hb dX3_isWider_0 rfl (lv_at hl 0 rfl) ?_
  refine lv_iload_n hx hb dX3_isWider_1 rfl (lv_at hl 1 rfl) ?_
  refine lv_icmp_ne (tgt := 7) hx hb dX3_isWider_2 (by decide) (fun c2 => ?_) (fun c2 => ?_)
  · refine lv_iload_n hx hb dX3_isWider_7 rfl (lv_at hl 0 rfl) ?_
    refine lv_if_eq (tgt := 15) hx hb dX3_isWider_8 (by decide) (fun c8 => ?_) (fun c8 => ?_)
    · refine lv_iconst (v := 0) hx hb dX3_isWider_15 (by decide) ?_
      exact pf_zret hx hb hr hlk dX3_isWider_16 rfl (by unfold m_isWider; grind)
    · refine lv_iload_n hx hb dX3_isWider_11 rfl (lv_at hl 1 rfl) ?_
      refine lv_if_ne (tgt := 17) hx hb dX3_isWider_12 (by decide) (fun c12 => ?_) (fun c12 => ?_)
      · refine lv_iload_n hx hb dX3_isWider_17 rfl (lv_at hl 1 rfl) ?_
        refine lv_iconst (v := 1) hx hb dX3_isWider_18 (by decide) ?_
        refine lv_icmp_ne (tgt := 40) hx hb dX3_isWider_19 (by decide) (fun c19 => ?_) (fun c19 => ?_)
        · refine lv_iload_n hx hb dX3_isWider_40 rfl (lv_at hl 1 rfl) ?_
          refine lv_iconst (v := 2) hx hb dX3_isWider_41 (by decide) ?_
          refine lv_icmp_eq (tgt := 50) hx hb dX3_isWider_42 (by decide) (fun c42 => ?_) (fun c42 => ?_)
          · refine lv_iload_n hx hb dX3_isWider_50 rfl (lv_at hl 0 rfl) ?_
            refine lv_iconst (v := 4) hx hb dX3_isWider_51 (by decide) ?_
            refine lv_icmp_lt (tgt := 59) hx hb dX3_isWider_52 (by decide) (fun c52 => ?_) (fun c52 => ?_)
            · refine lv_iconst (v := 0) hx hb dX3_isWider_59 (by decide) ?_
              refine lv_goto (tgt := 73) hx hb dX3_isWider_60 (by decide) ?_
              exact pf_zret hx hb hr hlk dX3_isWider_73 rfl (by unfold m_isWider; grind)
            · refine lv_iconst (v := 1) hx hb dX3_isWider_55 (by decide) ?_
              refine lv_goto (tgt := 73) hx hb dX3_isWider_56 (by decide) ?_
              exact pf_zret hx hb hr hlk dX3_isWider_73 rfl (by unfold m_isWider; grind)
          · refine lv_iload_n hx hb dX3_isWider_45 rfl (lv_at hl 1 rfl) ?_
            refine lv_iconst (v := 3) hx hb dX3_isWider_46 (by decide) ?_
            refine lv_icmp_ne (tgt := 63) hx hb dX3_isWider_47 (by decide) (fun c47 => ?_) (fun c47 => ?_)
            · refine lv_iload_n hx hb dX3_isWider_63 rfl (lv_at hl 0 rfl) ?_
              refine lv_iload_n hx hb dX3_isWider_64 rfl (lv_at hl 1 rfl) ?_
              refine lv_icmp_le (tgt := 72) hx hb dX3_isWider_65 (by decide) (fun c65 => ?_) (fun c65 => ?_)
              · refine lv_iconst (v := 0) hx hb dX3_isWider_72 (by decide) ?_
                exact pf_zret hx hb hr hlk dX3_isWider_73 rfl (by unfold m_isWider; grind)
              · refine lv_iconst (v := 1) hx hb dX3_isWider_68 (by decide) ?_
                refine lv_goto (tgt := 73) hx hb dX3_isWider_69 (by decide) ?_
                exact pf_zret hx hb hr hlk dX3_isWider_73 rfl (by unfold m_isWider; grind)
            · refine lv_iload_n hx hb dX3_isWider_50 rfl (lv_at hl 0 rfl) ?_
              refine lv_iconst (v := 4) hx hb dX3_isWider_51 (by decide) ?_
              refine lv_icmp_lt (tgt := 59) hx hb dX3_isWider_52 (by decide) (fun c52 => ?_) (fun c52 => ?_)
              · refine lv_iconst (v := 0) hx hb dX3_isWider_59 (by decide) ?_
                refine lv_goto (tgt := 73) hx hb dX3_isWider_60 (by decide) ?_
                exact pf_zret hx hb hr hlk dX3_isWider_73 rfl (by unfold m_isWider; grind)
              · refine lv_iconst (v := 1) hx hb dX3_isWider_55 (by decide) ?_
                refine lv_goto (tgt := 73) hx hb dX3_isWider_56 (by decide) ?_
                exact pf_zret hx hb hr hlk dX3_isWider_73 rfl (by unfold m_isWider; grind)
        · refine lv_iload_n hx hb dX3_isWider_22 rfl (lv_at hl 0 rfl) ?_
          refine lv_iconst (v := 3) hx hb dX3_isWider_23 (by decide) ?_
          refine lv_icmp_eq (tgt := 32) hx hb dX3_isWider_24 (by decide) (fun c24 => ?_) (fun c24 => ?_)
          · refine lv_iconst (v := 1) hx hb dX3_isWider_32 (by decide) ?_
            refine lv_goto (tgt := 73) hx hb dX3_isWider_33 (by decide) ?_
            exact pf_zret hx hb hr hlk dX3_isWider_73 rfl (by unfold m_isWider; grind)
          · refine lv_iload_n hx hb dX3_isWider_27 rfl (lv_at hl 0 rfl) ?_
            refine lv_iconst (v := 4) hx hb dX3_isWider_28 (by decide) ?_
            refine lv_icmp_lt (tgt := 36) hx hb dX3_isWider_29 (by decide) (fun c29 => ?_) (fun c29 => ?_)
            · refine lv_iconst (v := 0) hx hb dX3_isWider_36 (by decide) ?_
              refine lv_goto (tgt := 73) hx hb dX3_isWider_37 (by decide) ?_
              exact pf_zret hx hb hr hlk dX3_isWider_73 rfl (by unfold m_isWider; grind)
            · refine lv_iconst (v := 1) hx hb dX3_isWider_32 (by decide) ?_
              refine lv_goto (tgt := 73) hx hb dX3_isWider_33 (by decide) ?_
              exact pf_zret hx hb hr hlk dX3_isWider_73 rfl (by unfold m_isWider; grind)
      · refine lv_iconst (v := 0) hx hb dX3_isWider_15 (by decide) ?_
        exact pf_zret hx hb hr hlk dX3_isWider_16 rfl (by unfold m_isWider; grind)
  · refine lv_iconst (v := 1) hx hb dX3_isWider_5 (by decide) ?_
    exact pf_zret hx hb hr hlk dX3_isWider_6 rfl (by unfold m_isWider; grind)
