/-! THE LAYER V: throw new E() -/
theorem lw_in2 (ws : List Cond) (ps : List Nat) (hp : ws = ps.filterMap (fun i => lw_tbl[i]?)) (hg : ws.all (fun w => goodWord w || pw w) = true) : ∀ w ∈ ws, w ∈ lw_all ∨ (w ∈ lw_tbl ∧ pw w = true) := by
  intro w h
  have h1 := List.all_eq_true.mp hg w h
  rw [hp] at h
  obtain ⟨i, -, hi⟩ := List.mem_filterMap.mp h
  rw [Bool.or_eq_true] at h1
  rcases h1 with h1 | h1
  · exact Or.inl (lw_w i hi h1)
  · exact Or.inr ⟨List.mem_of_getElem? hi, h1⟩
/-- own's entries ik, ic make and begin an exception of the class E -/
def TH (own : String) (ik ic : Nat) (E : String) : Prop := ∃ names : List String, names.length ≤ 3 ∧ Bundle.fit E = true ∧ (∀ n ∈ names, Bundle.fit n = true) ∧ Cond.classLink own ik E ∈ lw_all ∧ Cond.initialized E ∈ lw_all ∧ (∀ w ∈ vx_at0 own ic E names, w ∈ lw_all ∨ (w ∈ lw_tbl ∧ pw w = true)) ∧ (∀ w ∈ Cond.classLink own ik E :: Cond.initialized E :: vx_at0 own ic E names, vx_ot w = true)
theorem vv_throw0 {G : WG} {Y : MY} {d mc ms : Nat} {Φ : Rs → Hp → Prop} {pc : Nat} {lo : List (Option AV)} {st : List AV} {h : Hp} {k n : Nat} {ik ic : Nat} {E : String} (hT : TH (yN Y).cls ik ic E) (hH : yH Y = [])
    (d0 : decode (yC Y) pc = .ok (.new ik, 3)) (d3 : decode (yC Y) (pc + 3) = .ok (.dup, 1)) (d4 : decode (yC Y) (pc + 4) = .ok (.invokespecial ic, 3)) (d7 : decode (yC Y) (pc + 7) = .ok (.athrow, 1))
    (hd : 8 ≤ d) (hst : (st.map av_c).sum ≤ 50) (hΦ : Φ (.inr E) h) : VV G Y d mc ms Φ pc lo st h (k + 1) (n + 6) := by
  intro p e s m args below meth c H locs cells slots ls A hP hS hk hn hl
  obtain ⟨hx, hb, hr, hlk, hml, hown, hts, hK, hBs, hex, hnm⟩ := id A
  obtain ⟨names, t1, t2, t3, t4, t5, t6, t7⟩ := hT
  have hat : ∀ w ∈ vx_at0 (yN Y).cls ic E names, w.before args s = true := by
    intro w hw
    rcases t6 w hw with h9 | ⟨h9, h8⟩
    · exact hts w h9
    · exact va_Nw.use (pw_tab h8) (hK.2.2.2.2.1 w h9 h8)
  refine vx_throw0 hx hb hK.1 hown t2 t3 (hts _ t4) (hts _ t5) hat t7 hK.2.2.2.2.2.2.2.2.1.1 hK.2.2.2.2.2.2.2.2.1.2 hS (by rw [hml]; exact hl.1) d0 d3 d4 d7 ?_ (show names.length + 3 < d by omega) ?_ (show cells + 1 ≤ mc by omega) (show slots + 6 ≤ ms by omega) hlk ?_ hS.2.2 (by omega) (by omega)
  · rw [hex, hH]; intro x hx; cases hx
  · show ((st.map av_v).map fun v => v.category).sum + _ ≤ 64 * d
    rw [av_cs]; omega
  · intro t ht h1 h2
    exact ⟨h, hΦ, hP.keptAll h2, Nat.le_trans hS.1 h1, fun q g1 g2 => (h2 q (Nat.lt_of_lt_of_le g1 hS.1)).trans (hS.2.1 q g1 g2)⟩
def c_IAE : String := "java/lang/IllegalArgumentException"
theorem th_IAE : TH "RiddlePost" 7 9 c_IAE := ⟨["java/lang/RuntimeException", "java/lang/Exception"], by decide, by decide +kernel, by decide +kernel, q1873, q72, lw_in2 _ [69, 243, 252, 258, 261, 263, 244, 245, 118, 119, 246, 251, 259, 276, 233, 277, 235, 278, 237, 247, 249, 239, 265, 266, 267, 268, 224, 268, 269, 270, 271, 226, 271, 272, 273, 244, 228, 1874, 222, 223, 230, 231, 232, 234, 236, 238, 242, 241, 240] (by decide +kernel) (by decide +kernel), by decide +kernel⟩
def c_IOB : String := "java/lang/IndexOutOfBoundsException"
theorem th_IOB : TH "RiddlePost" 13 15 c_IOB := ⟨["java/lang/RuntimeException", "java/lang/Exception"], by decide, by decide +kernel, by decide +kernel, q931, q80, lw_in2 _ [69, 243, 252, 258, 261, 263, 244, 245, 118, 119, 246, 251, 259, 276, 233, 277, 235, 278, 237, 247, 249, 239, 941, 942, 943, 268, 224, 268, 269, 270, 271, 226, 271, 272, 273, 244, 228, 940, 932, 933, 934, 256, 935, 936, 937, 938, 242, 241, 939] (by decide +kernel) (by decide +kernel), by decide +kernel⟩
def c_ISE : String := "java/lang/IllegalStateException"
theorem th_ISE : TH "RiddlePost" 16 18 c_ISE := ⟨["java/lang/RuntimeException", "java/lang/Exception"], by decide, by decide +kernel, by decide +kernel, q1941, q104, lw_in2 _ [69, 243, 252, 258, 261, 263, 244, 245, 118, 119, 246, 251, 259, 276, 233, 277, 235, 278, 237, 247, 249, 239, 1951, 1952, 1953, 268, 224, 268, 269, 270, 271, 226, 271, 272, 273, 244, 228, 1950, 1942, 1943, 1944, 255, 1945, 1946, 1947, 1948, 242, 241, 1949] (by decide +kernel) (by decide +kernel), by decide +kernel⟩
