/-! THE LAYER V: calls of inherited, overridden, super's methods; through interfaces; of methods with handlers; across the nest; a catch -/
section CALLS2
variable {G : WG} {Y Y' : MY} {d d' mc ms mc' ms' : Nat} {Φ Φ' : Rs → Hp → Prop} {pc : Nat} {lo : List (Option AV)} {st st0 As : List AV} {h : Hp} {k n : Nat}
theorem wsY_nil (hH : yH Y' = []) : wsY Y' = ws_ (yN Y') (yC Y') (yL Y') (yR Y') := by unfold wsY; rw [hH]
theorem cat8 {m : MethodId} {ls : Array Slot} {rest : List Value} (hrest : (st.map av_c).sum ≤ 8) : 2 * (F0 m pc ls rest).monitorRoom + ((st.map av_v).map fun v => v.category).sum ≤ 8 := by
  show 2 * 0 + _ ≤ 8
  rw [av_cs]; omega
/-- a method x named by own's pool, found in owner; the receiver's class C runs Y -/
def SiU (own : String) (i : Nat) (C owner : String) (x : MethodName) (Y' : MY) (na : Nat) : Prop := yH Y' = [] ∧ yL Y' ≤ 40 ∧ GoodIn lw_all (va_wsU own i C owner x (yN Y') (ws_ (yN Y') (yC Y') (yL Y') (yR Y'))) ∧ yN Y' = ⟨owner, x.name, x.desc⟩ ∧ owner ≠ "java/lang/invoke/MethodHandle" ∧ owner ≠ "java/lang/invoke/VarHandle" ∧ (parseMethodDescriptor x.desc).map (fun d => d.parameters.length) = some na
theorem vv_callU (pc' : Nat) {i b ci : Nat} {fs : List AV} {r : vw_C} {owner : String} {x : MethodName} (hd : decode (yC Y) pc = .ok (.invokevirtual i, 3)) (e9 : pc + 3 = pc') (hr : vcl[ci]? = some r) (hs : SiU (yN Y).cls i r.1 owner x Y' As.length) (hh : h b = some (ci, fs)) (hC : Cal G Y' d' mc' ms' (aR (some b) :: As) h Φ') (hst : st0 = As.reverse ++ aR (some b) :: st) (hdd : d' + 1 ≤ d) (hrest : (st.map av_c).sum ≤ 8) (kk : Aft G Y d mc ms Φ pc pc' lo st k n Φ') : VV G Y d mc ms Φ pc lo st0 h (k + mc') (n + ms') := by
  subst hst
  intro p e s m args below meth c H locs cells slots ls A hP hS hk hn hl
  obtain ⟨hx, hb, hret, hlk, hml, hown, hts, hK, hBs, hex, hnm⟩ := id A
  obtain ⟨hH, hL, hG, hyx, hy1, hy2, hy3⟩ := hs
  unfold Cal at hC
  rw [wsY_nil hH] at hC
  exact run_to e9 kk A hS hk hn hl (vx_runU (As := As.map av_v) (rest := st.map av_v) (n := As.length) ⟨hx, hb, hml, hown, hts⟩ hC (va_cwU As.length hts hG rfl rfl rfl hyx ⟨hy1, hy2, hy3⟩ (rm_ok hdd hL)) (pre_V A hP hS hh hr) rfl (by simp) hl.1 (by simp [av_v, va_rf]) (cat8 hrest) hd ⟨show cells + mc' ≤ mc by omega, show slots + ms' ≤ ms by omega⟩)
/-- .. where the receiver's class has a method of its own -/
def SiO (own : String) (i : Nat) (C owner : String) (x : MethodName) (Y' : MY) (na : Nat) : Prop := yH Y' = [] ∧ yL Y' ≤ 40 ∧ GoodIn lw_all (va_wsO own i C owner x (yN Y') (ws_ (yN Y') (yC Y') (yL Y') (yR Y'))) ∧ (∃ b0 m0 r0, Cond.code ⟨owner, x.name, x.desc⟩ b0 m0 r0 ∈ lw_all) ∧ owner ≠ "java/lang/invoke/MethodHandle" ∧ owner ≠ "java/lang/invoke/VarHandle" ∧ (parseMethodDescriptor x.desc).map (fun d => d.parameters.length) = some na
theorem vv_callO (pc' : Nat) {i b ci : Nat} {fs : List AV} {r : vw_C} {owner : String} {x : MethodName} (hd : decode (yC Y) pc = .ok (.invokevirtual i, 3)) (e9 : pc + 3 = pc') (hr : vcl[ci]? = some r) (hs : SiO (yN Y).cls i r.1 owner x Y' As.length) (hh : h b = some (ci, fs)) (hC : Cal G Y' d' mc' ms' (aR (some b) :: As) h Φ') (hst : st0 = As.reverse ++ aR (some b) :: st) (hdd : d' + 1 ≤ d) (hrest : (st.map av_c).sum ≤ 8) (kk : Aft G Y d mc ms Φ pc pc' lo st k n Φ') : VV G Y d mc ms Φ pc lo st0 h (k + mc') (n + ms') := by
  subst hst
  intro p e s m args below meth c H locs cells slots ls A hP hS hk hn hl
  obtain ⟨hx, hb, hret, hlk, hml, hown, hts, hK, hBs, hex, hnm⟩ := id A
  obtain ⟨hH, hL, hG, ⟨b0, m0, r0, h0⟩, hy1, hy2, hy3⟩ := hs
  unfold Cal at hC
  rw [wsY_nil hH] at hC
  exact run_to e9 kk A hS hk hn hl (vx_runU (As := As.map av_v) (rest := st.map av_v) (n := As.length) ⟨hx, hb, hml, hown, hts⟩ hC (va_cwO As.length hts hG rfl rfl rfl h0 ⟨hy1, hy2, hy3⟩ (rm_ok hdd hL)) (pre_V A hP hS hh hr) rfl (by simp) hl.1 (by simp [av_v, va_rf]) (cat8 hrest) hd ⟨show cells + mc' ≤ mc by omega, show slots + ms' ≤ ms by omega⟩)
/-- a super's method -/
def SiSU (own : String) (i : Nat) (Y' : MY) (na : Nat) : Prop := yH Y' = [] ∧ yL Y' ≤ 40 ∧ GoodIn lw_all (va_wsSU own i (yN Y') (ws_ (yN Y') (yC Y') (yL Y') (yR Y'))) ∧ (yN Y').name ≠ "<init>" ∧ (parseMethodDescriptor (yN Y').desc).map (fun d => d.parameters.length) = some na
theorem vv_callSU (pc' : Nat) {i b ci : Nat} {fs : List AV} {r : vw_C} (hd : decode (yC Y) pc = .ok (.invokespecial i, 3)) (e9 : pc + 3 = pc') (hr : vcl[ci]? = some r) (hs : SiSU (yN Y).cls i Y' As.length) (hh : h b = some (ci, fs)) (hC : Cal G Y' d' mc' ms' (aR (some b) :: As) h Φ') (hst : st0 = As.reverse ++ aR (some b) :: st) (hdd : d' + 1 ≤ d) (hrest : (st.map av_c).sum ≤ 8) (kk : Aft G Y d mc ms Φ pc pc' lo st k n Φ') : VV G Y d mc ms Φ pc lo st0 h (k + mc') (n + ms') := by
  subst hst
  intro p e s m args below meth c H locs cells slots ls A hP hS hk hn hl
  obtain ⟨hx, hb, hret, hlk, hml, hown, hts, hK, hBs, hex, hnm⟩ := id A
  obtain ⟨hH, hL, hG, hy1, hy3⟩ := hs
  unfold Cal at hC
  rw [wsY_nil hH] at hC
  exact run_to e9 kk A hS hk hn hl (vx_runSU (As := As.map av_v) (rest := st.map av_v) (n := As.length) (hK.2.1 ci _ hr).2 ⟨hx, hb, hml, hown, hts⟩ hC (va_cwSU As.length hts hG rfl rfl rfl ⟨hy1, hy3⟩ (rm_ok hdd hL)) (pre_V A hP hS hh hr) rfl (by simp) hl.1 (by simp [av_v, va_rf]) (cat8 hrest) hd ⟨show cells + mc' ≤ mc by omega, show slots + ms' ≤ ms by omega⟩)
/-- a call through an interface -/
def SiF (own : String) (i : Nat) (C : String) (x : MethodName) (Y' : MY) (na : Nat) : Prop := yH Y' = [] ∧ yL Y' ≤ 40 ∧ GoodIn lw_all (va_wsF own i C x (yN Y') (ws_ (yN Y') (yC Y') (yL Y') (yR Y'))) ∧ (C, x, yN Y') ∈ vfw ∧ x.cls ≠ "java/lang/invoke/MethodHandle" ∧ x.cls ≠ "java/lang/invoke/VarHandle" ∧ (parseMethodDescriptor x.desc).map (fun d => d.parameters.length) = some na
theorem vv_callF (pc' : Nat) {i cnt b ci : Nat} {fs : List AV} {r : vw_C} {x : MethodName} (hd : decode (yC Y) pc = .ok (.invokeinterface i cnt, 5)) (e9 : pc + 5 = pc') (hr : vcl[ci]? = some r) (hs : SiF (yN Y).cls i r.1 x Y' As.length) (hh : h b = some (ci, fs)) (hC : Cal G Y' d' mc' ms' (aR (some b) :: As) h Φ') (hst : st0 = As.reverse ++ aR (some b) :: st) (hdd : d' + 1 ≤ d) (hrest : (st.map av_c).sum ≤ 8) (kk : Aft G Y d mc ms Φ pc pc' lo st k n Φ') : VV G Y d mc ms Φ pc lo st0 h (k + mc') (n + ms') := by
  subst hst
  intro p e s m args below meth c H locs cells slots ls A hP hS hk hn hl
  obtain ⟨hx, hb, hret, hlk, hml, hown, hts, hK, hBs, hex, hnm⟩ := id A
  obtain ⟨hH, hL, hG, hF, hy1, hy2, hy3⟩ := hs
  unfold Cal at hC
  rw [wsY_nil hH] at hC
  exact run_to5 e9 kk A hS hk hn hl (vx_runF (As := As.map av_v) (rest := st.map av_v) (n := As.length) (hK.2.1 ci _ hr).2 ⟨hx, hb, hml, hown, hts⟩ hC (va_cwF As.length hts hG rfl rfl rfl (hK.2.2.2.2.2.1 _ hF) ⟨hy1, hy2, hy3⟩ (rm_ok hdd hL)) (pre_V A hP hS hh hr) rfl (by simp) hl.1 (by simp [av_v, va_rf]) (cat8 hrest) hd ⟨show cells + mc' ≤ mc by omega, show slots + ms' ≤ ms by omega⟩)
/-- a method with handlers, of the receiver's own class -/
def SiVW (own : String) (i : Nat) (Y' : MY) (na : Nat) : Prop := wsY Y' = wsW_ (yN Y') (yC Y') (yL Y') (yR Y') (yH Y') ∧ yL Y' ≤ 40 ∧ GoodIn lw_all (wsV own i (yN Y').cls (yN Y') (wsW_ (yN Y') (yC Y') (yL Y') (yR Y') (yH Y'))) ∧ (yN Y').cls ≠ "java/lang/invoke/MethodHandle" ∧ (yN Y').cls ≠ "java/lang/invoke/VarHandle" ∧ (parseMethodDescriptor (yN Y').desc).map (fun d => d.parameters.length) = some na
theorem vv_callVW (pc' : Nat) {i b ci : Nat} {fs : List AV} {r : vw_C} (hd : decode (yC Y) pc = .ok (.invokevirtual i, 3)) (e9 : pc + 3 = pc') (hs : SiVW (yN Y).cls i Y' As.length) (hh : h b = some (ci, fs)) (hr : vcl[ci]? = some r) (hr1 : r.1 = (yN Y').cls) (hC : Cal G Y' d' mc' ms' (aR (some b) :: As) h Φ') (hst : st0 = As.reverse ++ aR (some b) :: st) (hdd : d' + 1 ≤ d) (hrest : (st.map av_c).sum ≤ 8) (kk : Aft G Y d mc ms Φ pc pc' lo st k n Φ') : VV G Y d mc ms Φ pc lo st0 h (k + mc') (n + ms') := by
  subst hst
  intro p e s m args below meth c H locs cells slots ls A hP hS hk hn hl
  obtain ⟨hx, hb, hret, hlk, hml, hown, hts, hK, hBs, hex, hnm⟩ := id A
  obtain ⟨hH, hL, hG, hy1, hy2, hy3⟩ := hs
  unfold Cal at hC
  rw [hH] at hC
  exact run_to e9 kk A hS hk hn hl (vx_runVX (As := As.map av_v) (rest := st.map av_v) (n := As.length) ⟨hx, hb, hml, hown, hts⟩ hC (vx_cwVW As.length hts hG rfl rfl rfl ⟨rfl, hy1, hy2, hy3⟩ (rm_ok hdd hL)) (by rw [← hr1]; exact pre_V A hP hS hh hr) rfl (by simp) hl.1 (by simp [av_v, va_rf]) (cat8 hrest) hd ⟨show cells + mc' ≤ mc by omega, show slots + ms' ≤ ms by omega⟩)
/-- a static method with handlers -/
def SiSW (own : String) (i : Nat) (Y' : MY) (na : Nat) : Prop := wsY Y' = wsW_ (yN Y') (yC Y') (yL Y') (yR Y') (yH Y') ∧ yL Y' ≤ 40 ∧ GoodIn lw_all (va_wsS own i (yN Y') (wsW_ (yN Y') (yC Y') (yL Y') (yR Y') (yH Y'))) ∧ (yN Y').cls ≠ "java/lang/invoke/MethodHandle" ∧ (yN Y').cls ≠ "java/lang/invoke/VarHandle" ∧ (parseMethodDescriptor (yN Y').desc).map (fun d => d.parameters.length) = some na
theorem vv_callSW (pc' : Nat) {i : Nat} (hd : decode (yC Y) pc = .ok (.invokestatic i, 3)) (e9 : pc + 3 = pc') (hs : SiSW (yN Y).cls i Y' As.length) (hC : Cal G Y' d' mc' ms' As h Φ') (hst : st0 = As.reverse ++ st) (hdd : d' + 1 ≤ d) (hrest : (st.map av_c).sum ≤ 8) (kk : Aft G Y d mc ms Φ pc pc' lo st k n Φ') : VV G Y d mc ms Φ pc lo st0 h (k + mc') (n + ms') := by
  subst hst
  intro p e s m args below meth c H locs cells slots ls A hP hS hk hn hl
  obtain ⟨hx, hb, hr, hlk, hml, hown, hts, hK, hBs, hex, hnm⟩ := id A
  obtain ⟨hH, hL, hG, hy1, hy2, hy3⟩ := hs
  unfold Cal at hC
  rw [hH] at hC
  exact run_to e9 kk A hS hk hn hl (vx_runSX (As := As.map av_v) (rest := st.map av_v) (n := As.length) ⟨hx, hb, hml, hown, hts⟩ hC (vx_cwSW As.length hts hG rfl rfl rfl ⟨hy1, hy2, hy3⟩ (rm_ok hdd hL)) (pre_S A hP hS) rfl (by simp) hl.1 (by simp) (cat8 hrest) hd ⟨show cells + mc' ≤ mc by omega, show slots + ms' ≤ ms by omega⟩)
/-- a nest mate's private static -/
def SiSN (own : String) (i : Nat) (Y' : MY) (na : Nat) : Prop := yH Y' = [] ∧ yL Y' ≤ 40 ∧ GoodIn lw_all (ws_ (yN Y') (yC Y') (yL Y') (yR Y')) ∧ Cond.initialized (yN Y').cls ∈ lw_all ∧ (∃ host, Cond.methodLinkNest own i (yN Y') host ∈ lw_tbl) ∧ Cond.static (yN Y') ∈ lw_all ∧ (yN Y').cls ≠ "java/lang/invoke/MethodHandle" ∧ (yN Y').cls ≠ "java/lang/invoke/VarHandle" ∧ (parseMethodDescriptor (yN Y').desc).map (fun d => d.parameters.length) = some na
theorem vv_callSN (pc' : Nat) {i : Nat} (hd : decode (yC Y) pc = .ok (.invokestatic i, 3)) (e9 : pc + 3 = pc') (hs : SiSN (yN Y).cls i Y' As.length) (hC : Cal G Y' d' mc' ms' As h Φ') (hst : st0 = As.reverse ++ st) (hdd : d' + 1 ≤ d) (hrest : (st.map av_c).sum ≤ 8) (kk : Aft G Y d mc ms Φ pc pc' lo st k n Φ') : VV G Y d mc ms Φ pc lo st0 h (k + mc') (n + ms') := by
  subst hst
  intro p e s m args below meth c H locs cells slots ls A hP hS hk hn hl
  obtain ⟨hx, hb, hret, hlk, hml, hown, hts, hK, hBs, hex, hnm⟩ := id A
  obtain ⟨hH, hL, hG, hini, ⟨host, hlink⟩, hstat, hy2, hy3, hy4⟩ := hs
  unfold Cal at hC
  rw [wsY_nil hH] at hC
  exact run_to e9 kk A hS hk hn hl (vx_runSN (As := As.map av_v) (rest := st.map av_v) (n := As.length) ⟨hx, hb, hml, hown, hts⟩ hC ⟨va_cnB As.length hts hG rfl rfl rfl (hK.2.2.2.2.1 _ hlink rfl) (hts _ hini) ⟨hy2, hy3, hy4⟩ (rm_ok hdd hL), hts _ hstat, trivial⟩ (pre_S A hP hS) rfl (by simp) hl.1 (by simp) (cat8 hrest) hd ⟨show cells + mc' ≤ mc by omega, show slots + ms' ≤ ms by omega⟩)
/-- the row j of the handlers' table catches E, thrown at pc: those ahead name other classes -/
theorem vx_caught {E : String} (j : Nat) {hhj : Nat × Nat × Nat × Nat} (pc2 : Nat) (hj : (yH Y)[j]? = some hhj) (h2 : hhj.2.2.1 = pc2)
    (hpass : ∀ (i : Nat) (z : Nat × Nat × Nat × Nat), i < j → (yH Y)[i]? = some z → ¬ (z.1 ≤ pc ∧ pc < z.2.1) ∨ (z.2.2.2 ≠ 0 ∧ ∃ nm : String, Cond.classLink (yN Y).cls z.2.2.2 nm ∈ lw_all ∧ (E, nm) ∈ vnc))
    (hcov : hhj.1 ≤ pc ∧ pc < hhj.2.1) (h0 : hhj.2.2.2 ≠ 0) {name : String} (hl1 : Cond.classLink (yN Y).cls hhj.2.2.2 name ∈ lw_all) (hc1 : Cond.castable E name ∈ lw_tbl)
    (kk : ∀ q : Nat, VV G Y d mc ms Φ pc2 lo [aR (some q)] h k n) : VX G Y d mc ms Φ pc lo st E h k n := by
  intro p e s m args below meth c H locs cells slots ls q ce A hP hS hk hn hl g1 g2 g3
  obtain ⟨hx, hb, hret, hlk, hml, hown, hts, hK, hBs, hex, hnm⟩ := id A
  have hlt : j < (yH Y).length := (List.getElem?_eq_some_iff.mp hj).1
  have hsplit : c.exceptionTable.toList = (tableOf (yH Y)).take j ++ ⟨hhj.1, hhj.2.1, hhj.2.2.1, hhj.2.2.2⟩ :: (tableOf (yH Y)).drop (j + 1) := by
    rw [hex]
    have h9 : (tableOf (yH Y))[j]? = some ⟨hhj.1, hhj.2.1, hhj.2.2.1, hhj.2.2.2⟩ := by
      unfold tableOf
      rw [List.getElem?_map, hj]; rfl
    have h8 : j < (tableOf (yH Y)).length := (List.getElem?_eq_some_iff.mp h9).1
    rw [List.getElem?_eq_getElem h8] at h9
    rw [← Option.some.inj h9, List.getElem_cons_drop, List.take_append_drop]
  refine vx_catch (name := name) (E := E) hown _ _ _ hsplit ?_ ?_ h0 (hts _ hl1) (va_Nw.use rfl (hK.2.2.2.2.1 _ hc1 rfl)) g1 g2 g3 ?_
  · intro z hz
    obtain ⟨i, hi, hzi⟩ := List.mem_iff_getElem.mp hz
    have hij : i < j := by rw [List.length_take] at hi; omega
    rw [List.getElem_take] at hzi
    have hil : i < (yH Y).length := by omega
    have e1 : (yH Y)[i]? = some (yH Y)[i] := List.getElem?_eq_getElem hil
    have e2 : z = ⟨(yH Y)[i].1, (yH Y)[i].2.1, (yH Y)[i].2.2.1, (yH Y)[i].2.2.2⟩ := by
      rw [← hzi]
      simp [tableOf]
    rcases hpass i _ hij e1 with hno | ⟨hn0, nm, hl2, hnc⟩
    · left
      rw [e2]
      cases hcv : covers (⟨(yH Y)[i].1, (yH Y)[i].2.1, (yH Y)[i].2.2.1, (yH Y)[i].2.2.2⟩ : ExceptionTableEntry) pc with
      | false => rfl
      | true => exact absurd (by simpa [covers] using hcv) hno
    · right
      refine ⟨by rw [e2]; exact hn0, nm, by rw [e2]; exact hts _ hl2, ?_⟩
      exact hK.2.2.2.2.2.2.2.2.2.2 _ hnc
  · simp only [covers, Bool.and_eq_true, decide_eq_true_eq]
    exact hcov
  · rw [show (⟨hhj.1, hhj.2.1, hhj.2.2.1, hhj.2.2.2⟩ : ExceptionTableEntry).handlerPc = pc2 from h2]
    exact kk q p e s m args below meth c H locs cells slots ls A hP hS hk hn hl
end CALLS2
