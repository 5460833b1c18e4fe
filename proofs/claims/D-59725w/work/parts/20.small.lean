/-! LEAVES: Integer.compare, Topic, Note, Sooner, Act -/
def bI (b : Bool) : Int32 := if b then 1 else 0
theorem bI_fit (b : Bool) : avfit .boolean (aI (bI b)) = true := by cases b <;> decide
def iC (a b : Int32) : Int32 := if a < b then -1 else if a = b then 0 else 1
theorem hset_hset (h : Hp) (a : Nat) (o o' : HO) : hset (hset h a o) a o' = hset h a o' := by
  funext q
  by_cases hq : q = a <;> simp [hset, hq]
theorem m_J27_compare {G : WG} (a b : Int32) (h : Hp) : Cal G mJ27_compare 10 0 0 [aI a, aI b] h (pI fun x h' => x = iC a b ∧ h' = h) := by
  refine Cal.of rfl (plainFor_of_name (by decide +kernel)) (Nat.le_of_ble_eq_true rfl) rfl ?_
  refine vv_iload_n 1 dJ27_compare_0 rfl rfl ?_
  refine vv_iload_n 2 dJ27_compare_1 rfl rfl ?_
  refine vv_icmp_ge 9 5 dJ27_compare_2 (by decide) rfl (fun c1 => ?_) (fun c1 => ?_)
  · refine vv_iload_n 10 dJ27_compare_9 rfl rfl ?_
    refine vv_iload_n 11 dJ27_compare_10 rfl rfl ?_
    refine vv_icmp_ne 18 14 dJ27_compare_11 (by decide) rfl (fun c2 => ?_) (fun c2 => ?_)
    · refine vv_iconst (v := 1) 19 dJ27_compare_18 rfl (by decide) ?_
      exact vv_iret dJ27_compare_19 rfl rfl ⟨_, rfl, by simp [iC, Int32.not_lt.mpr c1, c2], rfl⟩
    · refine vv_iconst (v := 0) 15 dJ27_compare_14 rfl (by decide) ?_
      refine vv_goto 19 dJ27_compare_15 (by decide) ?_
      exact vv_iret dJ27_compare_19 rfl rfl ⟨_, rfl, by simp [iC, Int32.not_lt.mpr c1, c2], rfl⟩
  · refine vv_iconst (v := -1) 6 dJ27_compare_5 rfl (by decide) ?_
    refine vv_goto 19 dJ27_compare_6 (by decide) ?_
    exact vv_iret dJ27_compare_19 rfl rfl ⟨_, rfl, by simp [iC, Int32.not_le.mp c1], rfl⟩
theorem m_X7_init {G : WG} {a : Nat} {o : List AV} (z : Bool) (n : Int32) (h : Hp) (ha : h a = some (6, [aI 0, aI 0])) (hb : gB G ≤ a) : Cal G mX7_init 10 0 0 [aR (some a), aI (bI z), aI n] h (pV fun h' => h' = hset h a (6, [aI (bI z), aI n])) := by
  refine Cal.of rfl (plainFor_of_name (by decide +kernel)) (Nat.le_of_ble_eq_true rfl) rfl ?_
  refine vv_aload_n 1 dX7_init_0 rfl rfl ?_
  refine vv_objinit 4 dX7_init_1 rfl q955 (by decide) (by decide) ?_
  refine vv_aload_n 5 dX7_init_4 rfl rfl ?_
  refine vv_iload_n 6 dX7_init_5 rfl rfl ?_
  refine vv_put 9 dX7_init_6 rfl (gX7_7_6 rfl rfl) ha hb (bI_fit z) rfl ?_
  refine vv_aload_n 10 dX7_init_9 rfl rfl ?_
  refine vv_iload_n 11 dX7_init_10 rfl rfl ?_
  refine vv_put 14 dX7_init_11 rfl (gX7_13_6 rfl rfl) (hset_eq _ _ _) hb rfl rfl ?_
  exact vv_vret dX7_init_14 rfl ⟨rfl, hset_hset _ _ _ _⟩
def tpC (z1 z2 : Bool) (n1 n2 : Int32) : Int32 := if z1 = z2 then iC n1 n2 else if z1 then -1 else 1
theorem m_X7_compareTo {G : WG} {a b : Nat} (z1 z2 : Bool) (n1 n2 : Int32) (h : Hp) (ha : h a = some (6, [aI (bI z1), aI n1])) (hb : h b = some (6, [aI (bI z2), aI n2])) : Cal G mX7_compareTo 20 0 0 [aR (some a), aR (some b)] h (pI fun x h' => x = tpC z1 z2 n1 n2 ∧ h' = h) := by
  refine Cal.of rfl (plainFor_of_name (by decide +kernel)) (Nat.le_of_ble_eq_true rfl) rfl ?_
  refine vv_aload_n 1 dX7_compareTo_0 rfl rfl ?_
  refine vv_get 4 dX7_compareTo_1 rfl fX7_7_6 ha rfl ?_
  refine vv_aload_n 5 dX7_compareTo_4 rfl rfl ?_
  refine vv_get 8 dX7_compareTo_5 rfl fX7_7_6 hb rfl ?_
  refine vv_icmp_eq 24 11 dX7_compareTo_8 (by decide) rfl (fun c1 => ?_) (fun c1 => ?_)
  · refine vv_aload_n 25 dX7_compareTo_24 rfl rfl ?_
    refine vv_get 28 dX7_compareTo_25 rfl fX7_13_6 ha rfl ?_
    refine vv_aload_n 29 dX7_compareTo_28 rfl rfl ?_
    refine vv_get 32 dX7_compareTo_29 rfl fX7_13_6 hb rfl ?_
    refine cc_S 35 dX7_compareTo_32 rfl (m_J27_compare n1 n2 h) sX7_17 rfl (by decide) (by decide) rfl rfl (aft_I fun x h' hx => ?_)
    obtain ⟨rfl, rfl⟩ := hx
    have hz : z1 = z2 := by revert c1; cases z1 <;> cases z2 <;> decide
    exact vv_iret dX7_compareTo_35 rfl rfl ⟨_, rfl, by simp [tpC, hz], rfl⟩
  · refine vv_aload_n 12 dX7_compareTo_11 rfl rfl ?_
    refine vv_get 15 dX7_compareTo_12 rfl fX7_7_6 ha rfl ?_
    have hz : ¬ z1 = z2 := fun e => c1 (by rw [e])
    refine vv_if_eq 22 18 dX7_compareTo_15 (by decide) rfl (fun c2 => ?_) (fun c2 => ?_)
    · refine vv_iconst (v := 1) 23 dX7_compareTo_22 rfl (by decide) ?_
      exact vv_iret dX7_compareTo_23 rfl rfl ⟨_, rfl, by revert c2; cases z1 <;> simp [tpC, hz, bI], rfl⟩
    · refine vv_iconst (v := -1) 19 dX7_compareTo_18 rfl (by decide) ?_
      refine vv_goto 23 dX7_compareTo_19 (by decide) ?_
      exact vv_iret dX7_compareTo_23 rfl rfl ⟨_, rfl, by revert c2; cases z1 <;> simp [tpC, hz, bI], rfl⟩
theorem m_X7_compareTo_2 {G : WG} {a b : Nat} (z1 z2 : Bool) (n1 n2 : Int32) (h : Hp) (ha : h a = some (6, [aI (bI z1), aI n1])) (hb : h b = some (6, [aI (bI z2), aI n2])) : Cal G mX7_compareTo_2 30 0 0 [aR (some a), aR (some b)] h (pI fun x h' => x = tpC z1 z2 n1 n2 ∧ h' = h) := by
  refine Cal.of rfl (plainFor_of_name (by decide +kernel)) (Nat.le_of_ble_eq_true rfl) rfl ?_
  refine vv_aload_n 1 dX7_compareTo_2_0 rfl rfl ?_
  refine vv_aload_n 2 dX7_compareTo_2_1 rfl rfl ?_
  refine vv_cast1 5 dX7_compareTo_2_2 rfl hb kX7_8_6 ?_
  refine cc_V 8 dX7_compareTo_2_5 rfl (m_X7_compareTo z1 z2 n1 n2 h ha hb) sX7_23 ha rfl rfl rfl (by decide) (by decide) rfl rfl (aft_I fun x h' hx => ?_)
  exact vv_iret dX7_compareTo_2_8 rfl rfl ⟨_, rfl, hx⟩
theorem m_X8_init {G : WG} {a : Nat} (t : Option Nat) (kd v e : Int32) (h : Hp) (ha : h a = some (7, [aR none, aI 0, aI 0, aI 0])) (hb : gB G ≤ a) : Cal G mX8_init 10 0 0 [aR (some a), aR t, aI kd, aI v, aI e] h (pV fun h' => h' = hset h a (7, [aR t, aI kd, aI v, aI e])) := by
  refine Cal.of rfl (plainFor_of_name (by decide +kernel)) (Nat.le_of_ble_eq_true rfl) rfl ?_
  refine vv_aload_n 1 dX8_init_0 rfl rfl ?_
  refine vv_objinit 4 dX8_init_1 rfl q1802 (by decide) (by decide) ?_
  refine vv_aload_n 5 dX8_init_4 rfl rfl ?_
  refine vv_aload_n 6 dX8_init_5 rfl rfl ?_
  refine vv_put 9 dX8_init_6 rfl (gX8_7_7 rfl rfl) ha hb rfl rfl ?_
  refine vv_aload_n 10 dX8_init_9 rfl rfl ?_
  refine vv_iload_n 11 dX8_init_10 rfl rfl ?_
  refine vv_put 14 dX8_init_11 rfl (gX8_13_7 rfl rfl) (hset_eq _ _ _) hb rfl rfl ?_
  refine vv_aload_n 15 dX8_init_14 rfl rfl ?_
  refine vv_iload_n 16 dX8_init_15 rfl rfl ?_
  refine vv_put 19 dX8_init_16 rfl (gX8_17_7 rfl rfl) (hset_eq _ _ _) hb rfl rfl ?_
  refine vv_aload_n 20 dX8_init_19 rfl rfl ?_
  refine vv_iload 22 dX8_init_20 rfl rfl ?_
  refine vv_put 25 dX8_init_22 rfl (gX8_20_7 rfl rfl) (hset_eq _ _ _) hb rfl rfl ?_
  exact vv_vret dX8_init_25 rfl ⟨rfl, by rw [hset_hset, hset_hset, hset_hset]; rfl⟩
/-- notes by their ends, then by their topics -/
def ntC (e1 e2 : Int32) (z1 z2 : Bool) (n1 n2 : Int32) : Int32 := if iC e1 e2 = 0 then tpC z1 z2 n1 n2 else iC e1 e2
theorem m_X5_compare_2 {G : WG} {c a b ta tb : Nat} {k1 v1 e1 k2 v2 e2 : Int32} {z1 z2 : Bool} {n1 n2 : Int32} (h : Hp) (ha : h a = some (7, [aR (some ta), aI k1, aI v1, aI e1])) (hb : h b = some (7, [aR (some tb), aI k2, aI v2, aI e2])) (hta : h ta = some (6, [aI (bI z1), aI n1])) (htb : h tb = some (6, [aI (bI z2), aI n2])) : Cal G mX5_compare_2 40 0 0 [aR (some c), aR (some a), aR (some b)] h (pI fun x h' => x = ntC e1 e2 z1 z2 n1 n2 ∧ h' = h) := by
  refine Cal.of rfl (plainFor_of_name (by decide +kernel)) (Nat.le_of_ble_eq_true rfl) rfl ?_
  refine vv_aload_n 1 dX5_compare_2_0 rfl rfl ?_
  refine vv_get 4 dX5_compare_2_1 rfl fX5_7_7 ha rfl ?_
  refine vv_aload_n 5 dX5_compare_2_4 rfl rfl ?_
  refine vv_get 8 dX5_compare_2_5 rfl fX5_7_7 hb rfl ?_
  refine cc_S 11 dX5_compare_2_8 rfl (m_J27_compare e1 e2 h) sX5_13 rfl (by decide) (by decide) rfl rfl (aft_I fun x h' hx => ?_)
  obtain ⟨rfl, rfl⟩ := hx
  refine vv_istore_n 12 dX5_compare_2_11 rfl (by decide) rfl ?_
  refine vv_iload_n 13 dX5_compare_2_12 rfl rfl ?_
  refine vv_if_eq 20 16 dX5_compare_2_13 (by decide) rfl (fun c1 => ?_) (fun c1 => ?_)
  · refine vv_aload_n 21 dX5_compare_2_20 rfl rfl ?_
    refine vv_get 24 dX5_compare_2_21 rfl fX5_19_7 ha rfl ?_
    refine vv_aload_n 25 dX5_compare_2_24 rfl rfl ?_
    refine vv_get 28 dX5_compare_2_25 rfl fX5_19_7 hb rfl ?_
    refine cc_V 31 dX5_compare_2_28 rfl (m_X7_compareTo z1 z2 n1 n2 h' hta htb) sX5_23 hta rfl rfl rfl (by decide) (by decide) rfl rfl (aft_I fun x h' hx => ?_)
    obtain ⟨rfl, rfl⟩ := hx
    exact vv_iret dX5_compare_2_31 rfl rfl ⟨_, rfl, by simp [ntC, c1], rfl⟩
  · refine vv_iload_n 17 dX5_compare_2_16 rfl rfl ?_
    refine vv_goto 31 dX5_compare_2_17 (by decide) ?_
    exact vv_iret dX5_compare_2_31 rfl rfl ⟨_, rfl, by simp [ntC, c1], rfl⟩
theorem m_X5_compare {G : WG} {c a b ta tb : Nat} {k1 v1 e1 k2 v2 e2 : Int32} {z1 z2 : Bool} {n1 n2 : Int32} {fc : List AV} (h : Hp) (hc : h c = some (4, fc)) (ha : h a = some (7, [aR (some ta), aI k1, aI v1, aI e1])) (hb : h b = some (7, [aR (some tb), aI k2, aI v2, aI e2])) (hta : h ta = some (6, [aI (bI z1), aI n1])) (htb : h tb = some (6, [aI (bI z2), aI n2])) : Cal G mX5_compare 50 0 0 [aR (some c), aR (some a), aR (some b)] h (pI fun x h' => x = ntC e1 e2 z1 z2 n1 n2 ∧ h' = h) := by
  refine Cal.of rfl (plainFor_of_name (by decide +kernel)) (Nat.le_of_ble_eq_true rfl) rfl ?_
  refine vv_aload_n 1 dX5_compare_0 rfl rfl ?_
  refine vv_aload_n 2 dX5_compare_1 rfl rfl ?_
  refine vv_cast1 5 dX5_compare_2 rfl ha kX5_8_7 ?_
  refine vv_aload_n 6 dX5_compare_5 rfl rfl ?_
  refine vv_cast1 9 dX5_compare_6 rfl hb kX5_8_7 ?_
  refine cc_V 12 dX5_compare_9 rfl (m_X5_compare_2 h ha hb hta htb) sX5_29 hc rfl rfl rfl (by decide) (by decide) rfl rfl (aft_I fun x h' hx => ?_)
  exact vv_iret dX5_compare_12 rfl rfl ⟨_, rfl, hx⟩
