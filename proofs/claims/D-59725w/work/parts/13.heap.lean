/-! RULES OF THE LAYER V over the heap: fields, arrays, objects, statics, casts -/
def avfit : FieldType → AV → Bool
  | .int, .inl (.inl _) => true
  | .boolean, .inl (.inl x) => (x == 0 || x == 1) && (x &&& 1 == x)
  | .byte, .inl (.inl x) => (decide (-128 ≤ x) && decide (x ≤ 127)) && (x.toInt8.toInt32 == x)
  | .char, .inl (.inl x) => (decide (0 ≤ x) && decide (x ≤ 65535)) && (x.toUInt32.toUInt16.toUInt32.toInt32 == x)
  | .long, .inr (.inl _) => true
  | .double, .inr (.inr _) => true
  | .object _, .inl (.inr _) => true
  | .array _, .inl (.inr _) => true
  | _, _ => false
theorem avfit_ok {ty : FieldType} {v : AV} (h : avfit ty v = true) : narrow ty (av_v v) = av_v v ∧ fits ty (av_v v) = true := by
  rcases v with (x | r) | (x | x) <;> cases ty <;> first | (simp only [avfit] at h; exact absurd h (by decide)) | skip
  · simp only [avfit, Bool.and_eq_true, decide_eq_true_eq, beq_iff_eq] at h
    obtain ⟨⟨h1, h2⟩, h3⟩ := h
    refine ⟨?_, ?_⟩
    · show Value.int x.toInt8.toInt32 = .int x
      rw [h3]
    · show (decide (-128 ≤ x) && decide (x ≤ 127)) = true
      simp [h1, h2]
  · simp only [avfit, Bool.and_eq_true, decide_eq_true_eq, beq_iff_eq] at h
    obtain ⟨⟨h1, h2⟩, h3⟩ := h
    refine ⟨?_, ?_⟩
    · show Value.int x.toUInt32.toUInt16.toUInt32.toInt32 = .int x
      rw [h3]
    · show (decide (0 ≤ x) && decide (x ≤ 65535)) = true
      simp [h1, h2]
  · exact ⟨rfl, rfl⟩
  · simp only [avfit, Bool.and_eq_true, beq_iff_eq] at h
    obtain ⟨h1, h3⟩ := h
    refine ⟨?_, ?_⟩
    · show Value.int (x &&& 1) = .int x
      rw [h3]
    · exact h1
  · cases r <;> exact ⟨rfl, rfl⟩
  · cases r <;> exact ⟨rfl, rfl⟩
  · exact ⟨rfl, rfl⟩
  · exact ⟨rfl, rfl⟩
def dfv : FieldType → AV
  | .long => aL 0
  | .double => aD 0
  | .object _ => aR none
  | .array _ => aR none
  | _ => aI 0
theorem dfv_ok {ty : FieldType} (h : ty ≠ .float) : defaultValue ty = av_v (dfv ty) := by
  cases ty <;> first | rfl | exact absurd rfl h
/-- the default fields of a tag's objects -/
def vdf (ci : Nat) : List AV := match vcl[ci]? with
  | some q => (List.range q.2.2).map fun j => dfv (vct ci j)
  | none => []
theorem vct_nofloat : ∀ (c : Nat) (q : vw_C), vcl[c]? = some q → ∀ k, k < q.2.2 → vct c k ≠ .float := by
  have h : ∀ c : Fin 23, ∀ k : Fin 12, vct c.1 k.1 ≠ .float := by decide +kernel
  have h2 : ∀ c : Fin 23, (vcl[c.1]?.map fun q => decide (q.2.2 ≤ 12)) = some true := by decide +kernel
  intro c q hq k hk
  have hc : c < 23 := (List.getElem?_eq_some_iff.mp hq).1
  have h3 := h2 ⟨c, hc⟩
  rw [hq] at h3
  have h4 : q.2.2 ≤ 12 := of_decide_eq_true (Option.some.inj h3)
  exact h ⟨c, hc⟩ ⟨k, by omega⟩
/-- entry idx of own's pool names the field kf of the objects of tag ci -/
def FL (own : String) (idx ci kf : Nat) : Prop := ∃ (C : String) (T : u_T) (N : Nat), vcl[ci]? = some (C, T, N) ∧ kf < N ∧
  ((∃ ref : String, Cond.fieldLink own idx ref (T kf).2.1 (T kf).2.2.1 ∈ lw_all ∧ (ref = (T kf).1 ∨ Cond.sameField ref (T kf).1 (T kf).2.1 (T kf).2.2.1 ∈ lw_all)) ∨
   (∃ host : String, Cond.fieldLinkNest own idx (T kf).1 (T kf).2.1 (T kf).2.2.1 host ∈ lw_tbl))
/-- .. which may be written: it isn't final, or we stand in its declarer's constructor -/
def FW (Y : MY) (idx ci kf : Nat) : Prop := ∃ (C : String) (T : u_T) (N : Nat), vcl[ci]? = some (C, T, N) ∧ kf < N ∧
  ((T kf).2.2.2 = false ∧ ((∃ ref : String, Cond.fieldLink (yN Y).cls idx ref (T kf).2.1 (T kf).2.2.1 ∈ lw_all ∧ (ref = (T kf).1 ∨ Cond.sameField ref (T kf).1 (T kf).2.1 (T kf).2.2.1 ∈ lw_all)) ∨
   (∃ host : String, Cond.fieldLinkNest (yN Y).cls idx (T kf).1 (T kf).2.1 (T kf).2.2.1 host ∈ lw_tbl)) ∨
   ((T kf).2.2.2 = true ∧ (T kf).1 = (yN Y).cls ∧ (yN Y).name = "<init>" ∧ Cond.fieldLink (yN Y).cls idx (T kf).1 (T kf).2.1 (T kf).2.2.1 ∈ lw_all))
/-- entry idx of own's pool names the class of tag ci, whose objects have nS slots -/
def CN (own : String) (idx ci nS : Nat) : Prop := ∃ (C : String) (T : u_T) (N : Nat), vcl[ci]? = some (C, T, N) ∧ Cond.classLink own idx C ∈ lw_all ∧ Cond.instantiable C nS ∈ lw_all ∧ Cond.initialized C ∈ lw_all
/-- an object of tag ci passes the cast at entry idx of own's pool -/
def CK (own : String) (idx ci : Nat) : Prop := ∃ (C nm : String) (T : u_T) (N : Nat), vcl[ci]? = some (C, T, N) ∧ Cond.classLink own idx nm ∈ lw_all ∧ (C = nm ∨ Cond.castable C nm ∈ lw_tbl)
theorem vcl_lt {ci : Nat} {r : vw_C} (h : vcl[ci]? = some r) : ci < 100 := by
  have h1 : ci < 23 := (List.getElem?_eq_some_iff.mp h).1
  omega
theorem VV.less {G : WG} {Y : MY} {d mc ms : Nat} {Φ : Rs → Hp → Prop} {pc : Nat} {lo : List (Option AV)} {st : List AV} {h : Hp} {k n : Nat} (k' n' : Nat) (h1 : k' ≤ k) (h2 : n' ≤ n) (kk : VV G Y d mc ms Φ pc lo st h k' n') : VV G Y d mc ms Φ pc lo st h k n := by
  intro p e s m args below meth c H locs cells slots ls A hP hS hk hn hl
  exact kk p e s m args below meth c H locs cells slots ls A hP hS (by omega) (by omega) hl
theorem VV.to {G : WG} {Y : MY} {d mc ms : Nat} {Φ : Rs → Hp → Prop} {pc pc' : Nat} {lo lo' : List (Option AV)} {st st' : List AV} {h h' : Hp} {k n : Nat} (e1 : pc = pc') (e2 : lo = lo') (e3 : st = st') (e4 : h = h') (kk : VV G Y d mc ms Φ pc' lo' st' h' k n) : VV G Y d mc ms Φ pc lo st h k n := by
  subst e1; subst e2; subst e3; subst e4; exact kk
section HRUL
variable {G : WG} {Y : MY} {d mc ms : Nat} {Φ : Rs → Hp → Prop} {pc : Nat} {lo : List (Option AV)} {st : List AV} {h : Hp} {k n : Nat}
theorem cell_obj {H : Heap} {a ci : Nat} {fs : List AV} {r : vw_C} (hc : CellOK G a (ci, fs) H) (hr : vcl[ci]? = some r) : ∃ cell : Cell, H[a]? = some cell ∧ cell.vm ≠ .unknown ∧ cell.vm.isStatics = false ∧ (gB G ≤ a → cell.vm = .none) ∧ cell.cls = (gD G).1 ci ∧ fs.length = r.2.2 ∧ ∀ (k : Nat) (v : AV), fs[k]? = some v → cell.slots[(gD G).2 ci k]? = some (av_v v) := by
  obtain ⟨cell, c1, c2, c3, c4, c5⟩ := hc
  rcases c5 with ⟨-, hcls, r', hr', hlen, hf⟩ | ⟨h100, -⟩
  · cases Option.some.inj (hr'.symm.trans hr)
    exact ⟨cell, c1, c2, c3, c4, hcls, hlen, hf⟩
  · exact absurd (vcl_lt hr) (by have : 100 ≤ ci := h100; omega)
theorem cell_arr {H : Heap} {a t : Nat} {xs : List AV} {ty : FieldType} (hc : CellOK G a (t, xs) H) (ht : vty t = some ty) : ∃ cell : Cell, H[a]? = some cell ∧ cell.vm ≠ .unknown ∧ cell.vm.isStatics = false ∧ cell.cls = gA G t ∧ cell.slots = (xs.map av_v).toArray ∧ (gB G ≤ a → cell = { cls := gA G t, slots := (xs.map av_v).toArray, vm := .none }) := by
  obtain ⟨cell, c1, c2, c3, c4, c5⟩ := hc
  rcases c5 with ⟨hl, -⟩ | ⟨-, hcls, hsl, hex⟩
  · exfalso
    have hl : t < 100 := hl
    unfold vty at ht
    split at ht <;> first | omega | cases ht
  · exact ⟨cell, c1, c2, c3, hcls, hsl, hex⟩
theorem vv_get {a ci kf idx : Nat} {fs : List AV} {v : AV} (pc' : Nat) (hd : decode (yC Y) pc = .ok (.getfield idx, 3)) (e : pc + 3 = pc') (hf : FL (yN Y).cls idx ci kf) (hh : h a = some (ci, fs)) (hv : fs[kf]? = some v) (kk : VV G Y d mc ms Φ pc' lo (v :: st) h k n) : VV G Y d mc ms Φ pc lo (aR (some a) :: st) h k n := by
  subst e
  intro p e s m args below meth c H locs cells slots ls A hP hS hk hn hl
  obtain ⟨hx, hb, hr, hlk, hml, hown, hts, hK, hBs, hex, hnm⟩ := id A
  obtain ⟨C, T, N, hc, hkN, hlink⟩ := hf
  obtain ⟨cell, c1, c2, c3, c4, hcls, hlen, hfd⟩ := cell_obj (hP a _ hh) hc
  obtain ⟨hSl, hfc, kC, hkC, hkind⟩ := hK.2.1 ci _ hc
  obtain ⟨cf, kf', fi, f, hi, hsl⟩ := hSl kf hkN
  have hst := (u_facts hfc hkC (u_lays hts (vcl_in ci _ hc) hkN) hi).1
  have hslot : cell.slots[f.slot]? = some (av_v v) := by rw [hsl]; exact hfd kf v hv
  rcases hlink with ⟨ref, h1, h2⟩ | ⟨host, h1⟩
  · have hsame : s.fieldFound? ref (T kf).2.1 (T kf).2.2.1 = some (cf, kf', fi, f) := by
      rcases h2 with h2 | h2
      · rw [h2]; exact hi
      · exact u_same (hts _ h2) _ hi
    exact W.getf hx hb hown (hts _ h1) hsame hst c1 c2 hslot rfl rfl hd (kk p e s m args below meth c H locs cells slots ls A hP hS hk hn hl)
  · exact va_Wgetf hx hb hown (va_Nw.use rfl (hK.2.2.2.2.1 _ h1 rfl)) hi hst c1 c2 hslot rfl rfl hd (kk p e s m args below meth c H locs cells slots ls A hP hS hk hn hl)
theorem vv_put {a ci kf idx : Nat} {fs fs' : List AV} {v : AV} (pc' : Nat) (hd : decode (yC Y) pc = .ok (.putfield idx, 3)) (e : pc + 3 = pc') (hf : FW Y idx ci kf) (hh : h a = some (ci, fs)) (ha : gB G ≤ a) (hfit : avfit (vct ci kf) v = true) (hfs : fs.set kf v = fs') (kk : VV G Y d mc ms Φ pc' lo st (hset h a (ci, fs')) k n) : VV G Y d mc ms Φ pc lo (v :: aR (some a) :: st) h k n := by
  subst e
  subst hfs
  intro p e s m args below meth c H locs cells slots ls A hP hS hk hn hl
  obtain ⟨hx, hb, hr, hlk, hml, hown, hts, hK, hBs, hex, hnm⟩ := id A
  obtain ⟨C, T, N, hc, hkN, hlink⟩ := hf
  obtain ⟨cell, c1, c2, c3, c4, hcls, hlen, hfd⟩ := cell_obj (hP a _ hh) hc
  have hlen : fs.length = N := hlen
  have hvm := c4 ha
  obtain ⟨hSl, hfc, kC, hkC, hkind⟩ := hK.2.1 ci _ hc
  obtain ⟨cf, kf', fi, f, hi, hsl⟩ := hSl kf hkN
  have hin := vcl_in ci _ hc
  have hty := vcl_ty ci _ hc
  have hst := (u_facts hfc hkC (u_lays hts hin hkN) hi).1
  obtain ⟨hn1, hf1⟩ := avfit_ok hfit
  have hap : ∀ x y, x < N → y < N → x ≠ y → (gD G).2 ci x ≠ (gD G).2 ci y := by
    intro x y hx hy hne
    obtain ⟨_, _, _, fa, hia, ea⟩ := hSl x hx
    obtain ⟨_, _, _, fb, hib, eb⟩ := hSl y hy
    rw [← ea, ← eb]
    refine u_apart (u_lays hts hin hx) (u_lays hts hin hy) hia hib ?_
    rw [(State.fieldFound?_type hia (hty x hx)).1, (State.fieldFound?_type hib (hty y hy)).1]
    exact vcl_nm ci _ hc x hx y hy hne
  have hV : ∀ j, j < N → cell.slots[(gD G).2 ci j]? = some (av_v (fs.getD j (aI 0))) := by
    intro j hj
    refine hfd j _ ?_
    rw [List.getD_eq_getElem?_getD, List.getElem?_eq_getElem (by omega)]
    rfl
  have hlt : f.slot < cell.slots.size := by rw [hsl]; exact k2_hasslot (hV kf hkN)
  have key : ∀ H1 : Heap, H1[a]? = some (cell.setSlot f.slot (av_v v)) → H1.size = H.size → (∀ q, q ≠ a → H1[q]? = H[q]?) → W p (gl G) e (rmv d mc ms) s m args below meth c H1 (locs ++ [⟨a, f.slot⟩]) cells slots (vx_MQ below (QV G Φ) (XV G Φ) args s mc ms (gF G)) (F0 m (pc + 3) ls (st.map av_v)) := by
    intro H1 e1 e2 e3
    refine kk p e s m args below meth c H1 _ cells slots ls A (hP.set ⟨_, e1, c2, c3, fun _ => hvm, Or.inl ⟨vcl_lt hc, hcls, _, hc, ?_, ?_⟩⟩ e3) (hS.put e2 e3 ha) hk hn hl
    · show (fs.set kf v).length = N
      rw [List.length_set]; exact hlen
    · intro j w hj
      have hj : (fs.set kf v)[j]? = some w := hj
      have hjN : j < N := by
        have := (List.getElem?_eq_some_iff.mp hj).1
        rw [List.length_set] at this; omega
      have h9 := t_set hV hap hkN (av_v v) j hjN
      rw [hsl]
      show (cell.setSlot ((gD G).2 ci kf) (av_v v)).slots[(gD G).2 ci j]? = _
      rw [h9]
      by_cases hjk : j = kf
      · subst hjk
        rw [List.getElem?_set_self (by omega)] at hj
        cases hj
        simp [updV]
      · rw [List.getElem?_set_ne (Ne.symm hjk)] at hj
        simp only [updV, if_neg hjk]
        rw [List.getD_eq_getElem?_getD, hj]
        rfl
  rcases hlink with ⟨hfin, hlink⟩ | ⟨hfin, hdecl, hini, h1⟩
  · have hlay := hts _ (hin _ (u_in_lay hkN))
    unfold u_lay at hlay
    have hfin' : ¬ (T kf).2.2.2 = true := by rw [hfin]; decide
    rw [if_neg hfin'] at hlay
    have h6 := u_store hfc hkC hkind hlay hi (hty kf hkN) hn1 hf1
    rcases hlink with ⟨ref, h1, h2⟩ | ⟨host, h1⟩
    · have hsame : s.fieldFound? ref (T kf).2.1 (T kf).2.2.1 = some (cf, kf', fi, f) := by
        rcases h2 with h2 | h2
        · rw [h2]; exact hi
        · exact u_same (hts _ h2) _ hi
      exact W.putK hx hb (f := f) ⟨hown, hts _ h1, ⟨_, _, _, hsame⟩, hst⟩ (by rw [hcls]; exact h6) c1 hvm hlt rfl rfl hd key
    · exact va_WputK hx hb (f := f) hown (va_Nw.use rfl (hK.2.2.2.2.1 _ h1 rfl)) hi hst (by rw [hcls]; exact h6) c1 hvm hlt rfl rfl hd key
  · have hlay := hts _ (hin _ (u_in_lay hkN))
    unfold u_lay at hlay
    rw [if_pos hfin] at hlay
    have hcf : m.cls = cf := by
      obtain ⟨_, _, c', _, _, _, -, -, hf', -, -, -, hown2, -⟩ := Cond.laysFinal_spec hlay
      have e1 : c' = cf := by have := hi.symm.trans hf'; simp at this; exact this.1.symm
      have hown2 : s.vm.findClass (T kf).1 = some c' := hown2
      rw [hdecl] at hown2
      rw [← e1]; exact Option.some.inj (hown.symm.trans hown2)
    have h6 := u_fits hfc hkC hkind (Or.inr hlay) hi (hty kf hkN) hn1 hf1
    exact W.putFinK hx hb hown (hts _ h1) hi hst hcf (hnm.trans hini) (by rw [hcls]; exact h6) c1 hvm hlt rfl rfl hd key
theorem vv_new {ci idx nS : Nat} {fs : List AV} (pc' : Nat) (hd : decode (yC Y) pc = .ok (.new idx, 3)) (e : pc + 3 = pc') (hc : CN (yN Y).cls idx ci nS) (hfs : vdf ci = fs) (kk : ∀ q : Nat, h q = none → gB G ≤ q → VV G Y d mc ms Φ pc' lo (aR (some q) :: st) (hset h q (ci, fs)) k n) : VV G Y d mc ms Φ pc lo st h (k + 1) (n + nS) := by
  subst e
  subst hfs
  intro p e s m args below meth c H locs cells slots ls A hP hS hk hn hl
  obtain ⟨hx, hb, hr, hlk, hml, hown, hts, hK, hBs, hex, hnm⟩ := id A
  obtain ⟨C, T, N, hc, h1, h2, h3⟩ := hc
  have hKn := hK.2.1 ci _ hc
  refine W.newcK hx hb hown (hts _ h1) (hts _ h2) (hts _ h3) rfl hd (show cells + 1 ≤ mc by omega) (show slots + nS ≤ ms by omega) hKn.2.1 rfl fun H1 kC hkC e1 z1 o1 => ?_
  obtain ⟨cell, b1, b2, b3, b4⟩ := u_born (vct ci) hts (vcl_in ci _ hc) hKn hkC e1 (vcl_ty ci _ hc)
  have hHB : gB G ≤ H.size := Nat.le_trans hBs hS.1
  have hcell : CellOK G H.size (ci, vdf ci) H1 := by
    refine ⟨cell, b1, fun z => ?_, ?_, fun _ => b3, Or.inl ⟨vcl_lt hc, b2, _, hc, by simp [vdf, hc], fun j v hj => ?_⟩⟩
    · rw [b3] at z; cases z
    · rw [b3]; rfl
    · have hj : (vdf ci)[j]? = some v := hj
      simp only [vdf, hc, List.getElem?_map] at hj
      have hjN : j < N := by
        by_cases q : j < N
        · exact q
        · rw [List.getElem?_eq_none (by simp; omega)] at hj; cases hj
      rw [List.getElem?_range hjN] at hj
      cases hj
      rw [b4 j hjN]
      exact congrArg some (dfv_ok (vct_nofloat ci _ hc j hjN))
  obtain ⟨g1, g2⟩ := hP.push hcell o1
  exact kk H.size g1 hHB p e s m args below meth c H1 locs (cells + 1) (slots + nS) ls A g2 ⟨Nat.le_trans hS.1 (by omega), fun x h1 h2 => (o1 x (Nat.lt_of_lt_of_le h1 hS.1)).trans (hS.2.1 x h1 h2), hS.2.2⟩ (by omega) (by omega) hl
/-! arrays -/
theorem vv_iald {a t j : Nat} {xs : List AV} {i : Int32} {v : AV} (pc' : Nat) (hd : decode (yC Y) pc = .ok (.iaload, 1)) (e : pc + 1 = pc') (hh : h a = some (t, xs)) (ht : vty t = some .int) (hi : ¬ i < 0) (hj : i.toNatClampNeg = j) (hv : xs[j]? = some v) (kk : VV G Y d mc ms Φ pc' lo (v :: st) h k n) : VV G Y d mc ms Φ pc lo (aI i :: aR (some a) :: st) h k n := by
  subst e
  subst hj
  intro p e s m args below meth c H locs cells slots ls A hP hS hk hn hl
  obtain ⟨hx, hb, hr, hlk, hml, hown, hts, hK, hBs, hex, hnm⟩ := id A
  obtain ⟨cell, c1, c2, c3, c4, c5, -⟩ := cell_arr (hP a _ hh) ht
  have hlt := (List.getElem?_eq_some_iff.mp hv).1
  refine W.iald (v := av_v v) hx hb c1 (isArr_of (hK.2.2.1 _ _ ht) c4 c3) c2 ?_ ?_ rfl rfl hd (kk p e s m args below meth c H locs cells slots ls A hP hS hk hn hl)
  · rw [c5]; rintro (q | q)
    · exact hi q
    · simp at q; omega
  · rw [c5]; simp [hv]
theorem vv_lald {a t j : Nat} {xs : List AV} {i : Int32} {v : AV} (pc' : Nat) (hd : decode (yC Y) pc = .ok (.laload, 1)) (e : pc + 1 = pc') (hh : h a = some (t, xs)) (ht : vty t = some .long) (hi : ¬ i < 0) (hj : i.toNatClampNeg = j) (hv : xs[j]? = some v) (kk : VV G Y d mc ms Φ pc' lo (v :: st) h k n) : VV G Y d mc ms Φ pc lo (aI i :: aR (some a) :: st) h k n := by
  subst e
  subst hj
  intro p e s m args below meth c H locs cells slots ls A hP hS hk hn hl
  obtain ⟨hx, hb, hr, hlk, hml, hown, hts, hK, hBs, hex, hnm⟩ := id A
  obtain ⟨cell, c1, c2, c3, c4, c5, -⟩ := cell_arr (hP a _ hh) ht
  have hlt := (List.getElem?_eq_some_iff.mp hv).1
  refine W.lald (v := av_v v) hx hb c1 (isArr_of (hK.2.2.1 _ _ ht) c4 c3) c2 ?_ ?_ rfl rfl hd (kk p e s m args below meth c H locs cells slots ls A hP hS hk hn hl)
  · rw [c5]; rintro (q | q)
    · exact hi q
    · simp at q; omega
  · rw [c5]; simp [hv]
theorem vv_bald {a t j : Nat} {xs : List AV} {i : Int32} {v : AV} (pc' : Nat) (hd : decode (yC Y) pc = .ok (.baload, 1)) (e : pc + 1 = pc') (hh : h a = some (t, xs)) (ht : vty t = some .byte) (hi : ¬ i < 0) (hj : i.toNatClampNeg = j) (hv : xs[j]? = some v) (kk : VV G Y d mc ms Φ pc' lo (v :: st) h k n) : VV G Y d mc ms Φ pc lo (aI i :: aR (some a) :: st) h k n := by
  subst e
  subst hj
  intro p e s m args below meth c H locs cells slots ls A hP hS hk hn hl
  obtain ⟨hx, hb, hr, hlk, hml, hown, hts, hK, hBs, hex, hnm⟩ := id A
  obtain ⟨cell, c1, c2, c3, c4, c5, -⟩ := cell_arr (hP a _ hh) ht
  have hlt := (List.getElem?_eq_some_iff.mp hv).1
  refine W.bald (v := av_v v) hx hb c1 (isArr_of (hK.2.2.1 _ _ ht) c4 c3) c2 ?_ ?_ rfl rfl hd (kk p e s m args below meth c H locs cells slots ls A hP hS hk hn hl)
  · rw [c5]; rintro (q | q)
    · exact hi q
    · simp at q; omega
  · rw [c5]; simp [hv]
theorem vv_aald {a t j : Nat} {xs : List AV} {i : Int32} {v : AV} {C : String} (pc' : Nat) (hd : decode (yC Y) pc = .ok (.aaload, 1)) (e : pc + 1 = pc') (hh : h a = some (t, xs)) (ht : vty t = some (.object C)) (hi : ¬ i < 0) (hj : i.toNatClampNeg = j) (hv : xs[j]? = some v) (kk : VV G Y d mc ms Φ pc' lo (v :: st) h k n) : VV G Y d mc ms Φ pc lo (aI i :: aR (some a) :: st) h k n := by
  subst e
  subst hj
  intro p e s m args below meth c H locs cells slots ls A hP hS hk hn hl
  obtain ⟨hx, hb, hr, hlk, hml, hown, hts, hK, hBs, hex, hnm⟩ := id A
  obtain ⟨cell, c1, c2, c3, c4, c5, -⟩ := cell_arr (hP a _ hh) ht
  have hlt := (List.getElem?_eq_some_iff.mp hv).1
  refine W.aald (v := av_v v) hx hb c1 (isArr_of (hK.2.2.1 _ _ ht) c4 c3) rfl c2 ?_ ?_ rfl rfl hd (kk p e s m args below meth c H locs cells slots ls A hP hS hk hn hl)
  · rw [c5]; rintro (q | q)
    · exact hi q
    · simp at q; omega
  · rw [c5]; simp [hv]
theorem vv_alen {a t : Nat} {xs : List AV} {ty : FieldType} (pc' : Nat) (hd : decode (yC Y) pc = .ok (.arraylength, 1)) (e : pc + 1 = pc') (hh : h a = some (t, xs)) (ht : vty t = some ty) (kk : VV G Y d mc ms Φ pc' lo (aI (nI xs.length) :: st) h k n) : VV G Y d mc ms Φ pc lo (aR (some a) :: st) h k n := by
  subst e
  intro p e s m args below meth c H locs cells slots ls A hP hS hk hn hl
  obtain ⟨hx, hb, hr, hlk, hml, hown, hts, hK, hBs, hex, hnm⟩ := id A
  obtain ⟨cell, c1, c2, c3, c4, c5, -⟩ := cell_arr (hP a _ hh) ht
  exact W.alen (n := nI xs.length) hx hb c1 (isArr_of (hK.2.2.1 _ _ ht) c4 c3) (by rw [c5]; simp [nI]) rfl rfl hd (kk p e s m args below meth c H locs cells slots ls A hP hS hk hn hl)
theorem cell_set {H H1 : Heap} {a t j : Nat} {xs : List AV} {v : AV} {cell : Cell} {ty : FieldType} (hP : HP G h H) (ht : vty t = some ty) (c2 : cell.vm ≠ .unknown) (c3 : cell.vm.isStatics = false) (c4 : cell.cls = gA G t) (c5 : cell.slots = (xs.map av_v).toArray) (c6 : gB G ≤ a → cell = { cls := gA G t, slots := (xs.map av_v).toArray, vm := .none }) (ha : gB G ≤ a) (e1 : H1[a]? = some (cell.setSlot j (av_v v))) (e3 : ∀ q, q ≠ a → H1[q]? = H[q]?) : HP G (hset h a (t, xs.set j v)) H1 := by
  have h9 : cell.setSlot j (av_v v) = { cls := gA G t, slots := ((xs.set j v).map av_v).toArray, vm := .none } := by
    rw [c6 ha]
    show ({ cls := gA G t, slots := _, vm := .none } : Cell) = _
    congr 1
    apply Array.ext'
    simp [List.map_set]
  refine hP.set ?_ e3
  refine ⟨_, e1, ?_, ?_, ?_, Or.inr ⟨?_, ?_, ?_, ?_⟩⟩
  · rw [h9]; exact fun z => by cases z
  · rw [h9]; rfl
  · intro _; rw [h9]
  · show 100 ≤ t
    unfold vty at ht
    split at ht <;> first | omega | cases ht
  · rw [h9]
  · rw [h9]
  · intro _; exact h9
theorem vv_iast {a t j : Nat} {xs xs' : List AV} {i : Int32} {x : Int32} (pc' : Nat) (hd : decode (yC Y) pc = .ok (.iastore, 1)) (e : pc + 1 = pc') (hh : h a = some (t, xs)) (ht : vty t = some .int) (ha : gB G ≤ a) (hi : ¬ i < 0) (hj : i.toNatClampNeg = j) (hl9 : j < xs.length) (hxs : xs.set j (aI (x)) = xs') (kk : VV G Y d mc ms Φ pc' lo st (hset h a (t, xs')) k n) : VV G Y d mc ms Φ pc lo (aI x :: aI i :: aR (some a) :: st) h k n := by
  subst e
  subst hj
  subst hxs
  intro p e s m args below meth c H locs cells slots ls A hP hS hk hn hl
  obtain ⟨hx, hb, hr, hlk, hml, hown, hts, hK, hBs, hex, hnm⟩ := id A
  obtain ⟨cell, c1, c2, c3, c4, c5, c6⟩ := cell_arr (hP a _ hh) ht
  refine W.iast hx hb c1 (isArr_of (hK.2.2.1 _ _ ht) c4 c3) c2 ?_ rfl rfl hd fun H1 e1 e2 e3 => kk p e s m args below meth c H1 _ cells slots ls A (cell_set (v := aI (x)) hP ht c2 c3 c4 c5 c6 ha e1 e3) (hS.put e2 e3 ha) hk hn hl
  rw [c5]; rintro (q | q)
  · exact hi q
  · simp at q; omega
theorem vv_last {a t j : Nat} {xs xs' : List AV} {i : Int32} {x : Int64} (pc' : Nat) (hd : decode (yC Y) pc = .ok (.lastore, 1)) (e : pc + 1 = pc') (hh : h a = some (t, xs)) (ht : vty t = some .long) (ha : gB G ≤ a) (hi : ¬ i < 0) (hj : i.toNatClampNeg = j) (hl9 : j < xs.length) (hxs : xs.set j (aL (x)) = xs') (kk : VV G Y d mc ms Φ pc' lo st (hset h a (t, xs')) k n) : VV G Y d mc ms Φ pc lo (aL x :: aI i :: aR (some a) :: st) h k n := by
  subst e
  subst hj
  subst hxs
  intro p e s m args below meth c H locs cells slots ls A hP hS hk hn hl
  obtain ⟨hx, hb, hr, hlk, hml, hown, hts, hK, hBs, hex, hnm⟩ := id A
  obtain ⟨cell, c1, c2, c3, c4, c5, c6⟩ := cell_arr (hP a _ hh) ht
  refine W.last hx hb c1 (isArr_of (hK.2.2.1 _ _ ht) c4 c3) c2 ?_ rfl rfl hd fun H1 e1 e2 e3 => kk p e s m args below meth c H1 _ cells slots ls A (cell_set (v := aL (x)) hP ht c2 c3 c4 c5 c6 ha e1 e3) (hS.put e2 e3 ha) hk hn hl
  rw [c5]; rintro (q | q)
  · exact hi q
  · simp at q; omega
theorem vv_bast {a t j : Nat} {xs xs' : List AV} {i : Int32} {x : Int32} (pc' : Nat) (hd : decode (yC Y) pc = .ok (.bastore, 1)) (e : pc + 1 = pc') (hh : h a = some (t, xs)) (ht : vty t = some .byte) (ha : gB G ≤ a) (hi : ¬ i < 0) (hj : i.toNatClampNeg = j) (hl9 : j < xs.length) (hxs : xs.set j (aI (x.toInt8.toInt32)) = xs') (kk : VV G Y d mc ms Φ pc' lo st (hset h a (t, xs')) k n) : VV G Y d mc ms Φ pc lo (aI x :: aI i :: aR (some a) :: st) h k n := by
  subst e
  subst hj
  subst hxs
  intro p e s m args below meth c H locs cells slots ls A hP hS hk hn hl
  obtain ⟨hx, hb, hr, hlk, hml, hown, hts, hK, hBs, hex, hnm⟩ := id A
  obtain ⟨cell, c1, c2, c3, c4, c5, c6⟩ := cell_arr (hP a _ hh) ht
  refine W.bast hx hb c1 (isArr_of (hK.2.2.1 _ _ ht) c4 c3) c2 ?_ rfl rfl hd fun H1 e1 e2 e3 => kk p e s m args below meth c H1 _ cells slots ls A (cell_set (v := aI (x.toInt8.toInt32)) hP ht c2 c3 c4 c5 c6 ha e1 e3) (hS.put e2 e3 ha) hk hn hl
  rw [c5]; rintro (q | q)
  · exact hi q
  · simp at q; omega
theorem vv_aastN {a t j : Nat} {xs xs' : List AV} {i : Int32} {C : String} (pc' : Nat) (hd : decode (yC Y) pc = .ok (.aastore, 1)) (e : pc + 1 = pc') (hh : h a = some (t, xs)) (ht : vty t = some (.object C)) (ha : gB G ≤ a) (hi : ¬ i < 0) (hj : i.toNatClampNeg = j) (hl9 : j < xs.length) (hxs : xs.set j (aR none) = xs') (kk : VV G Y d mc ms Φ pc' lo st (hset h a (t, xs')) k n) : VV G Y d mc ms Φ pc lo (aR none :: aI i :: aR (some a) :: st) h k n := by
  subst e
  subst hj
  subst hxs
  intro p e s m args below meth c H locs cells slots ls A hP hS hk hn hl
  obtain ⟨hx, hb, hr, hlk, hml, hown, hts, hK, hBs, hex, hnm⟩ := id A
  obtain ⟨cell, c1, c2, c3, c4, c5, c6⟩ := cell_arr (hP a _ hh) ht
  refine va_WaastN hx hb c1 (isArr_of (hK.2.2.1 _ _ ht) c4 c3) c2 ?_ rfl rfl hd fun H1 e1 e2 e3 => kk p e s m args below meth c H1 _ cells slots ls A (cell_set (v := aR none) hP ht c2 c3 c4 c5 c6 ha e1 e3) (hS.put e2 e3 ha) hk hn hl
  rw [c5]; rintro (q | q)
  · exact hi q
  · simp at q; omega
/-- objects of this tag go into arrays of Objects -/
def OK (ci : Nat) : Prop := ∃ (C : String) (T : u_T) (N : Nat), vcl[ci]? = some (C, T, N) ∧ Cond.castable C "java/lang/Object" ∈ lw_tbl
theorem vv_aast {a j b ci : Nat} {xs xs' fs : List AV} {i : Int32} (pc' : Nat) (hd : decode (yC Y) pc = .ok (.aastore, 1)) (e : pc + 1 = pc') (hh : h a = some (103, xs)) (hb9 : h b = some (ci, fs)) (ho : OK ci) (ha : gB G ≤ a) (hi : ¬ i < 0) (hj : i.toNatClampNeg = j) (hl9 : j < xs.length) (hxs : xs.set j (aR (some b)) = xs') (kk : VV G Y d mc ms Φ pc' lo st (hset h a (103, xs')) k n) : VV G Y d mc ms Φ pc lo (aR (some b) :: aI i :: aR (some a) :: st) h k n := by
  subst e
  subst hj
  subst hxs
  intro p e s m args below meth c H locs cells slots ls A hP hS hk hn hl
  obtain ⟨hx, hb, hr, hlk, hml, hown, hts, hK, hBs, hex, hnm⟩ := id A
  have ht : vty 103 = some (.object "java/lang/Object") := rfl
  obtain ⟨cell, c1, c2, c3, c4, c5, c6⟩ := cell_arr (hP a _ hh) ht
  obtain ⟨C, T, N, hc, hcast⟩ := ho
  obtain ⟨cb, d1, d2, d3, d4, d5, -⟩ := cell_obj (hP b _ hb9) hc
  obtain ⟨-, hfc, kC, hkC, hkind⟩ := hK.2.1 ci _ hc
  obtain ⟨kA, comp, r1, r2, r3, -⟩ := hK.2.2.2.1 103 _ ht (by decide)
  obtain ⟨kE, hkE, -⟩ := Vm.findClass_spec r3
  have hasg := vb_asgC (hK.2.2.2.2.1 _ hcast rfl) comp ((gD G).1 ci) r3 hfc
  refine W.aast (cv := cb) (k := kA) (kv := kC) (kcomp := kE) (comp := comp) hx hb c1 (fun q z => by rw [z] at c3; cases c3) c2 (by rw [c4]; exact r1) r2 rfl hkE ⟨hi, ?_⟩ d1 (fun q z => by rw [z] at d3; cases d3) (by rw [d5]; exact hkC) (by rw [d5]; exact hasg) rfl rfl hd fun H1 e1 e2 e3 => kk p e s m args below meth c H1 _ cells slots ls A (cell_set (v := aR (some b)) hP ht c2 c3 c4 c5 c6 ha e1 e3) (hS.put e2 e3 ha) hk hn hl
  rw [c5]; simpa using hl9
theorem vv_newarr_i {x : Int32} {N : Nat} (pc' : Nat) (hd : decode (yC Y) pc = .ok (.newarray .int, 2)) (e : pc + 2 = pc') (hw : Cond.arrayClass .int ∈ lw_all) (hx9 : ¬ x < 0) (hN : x.toNatClampNeg = N) (hN9 : N ≤ 60000000) (kk : ∀ q : Nat, h q = none → gB G ≤ q → VV G Y d mc ms Φ pc' lo (aR (some q) :: st) (hset h q (100, List.replicate N (aI 0))) k n) : VV G Y d mc ms Φ pc lo (aI x :: st) h (k + 1) (n + N) := by
  subst e
  subst hN
  intro p e s m args below meth c H locs cells slots ls A hP hS hk hn hl
  obtain ⟨hx, hb, hr, hlk, hml, hown, hts, hK, hBs, hex, hnm⟩ := id A
  have ht : vty 100 = some .int := rfl
  have hRA := hK.2.2.2.1 100 _ ht (by decide)
  refine W.newa hx hb (atype := .int) (hts _ hw) rfl hd rfl hx9 (show x.toNatClampNeg * componentBytes .int ≤ 536870912 from ?_) (show cells + 1 ≤ mc by omega) (show slots + x.toNatClampNeg ≤ ms by omega) fun cA kA comp h1 h2 h3 => ?_
  · show x.toNatClampNeg * _ ≤ _
    have : componentBytes .int ≤ 8 := by decide
    calc x.toNatClampNeg * componentBytes .int ≤ x.toNatClampNeg * 8 := Nat.mul_le_mul_left _ this
      _ ≤ 536870912 := by omega
  · have hcA : cA = gA G 100 := Option.some.inj (h1.symm.trans hRA)
    subst hcA
    have hHB : gB G ≤ H.size := Nat.le_trans hBs hS.1
    have hcell : CellOK G H.size (100, List.replicate x.toNatClampNeg (aI 0)) (H.push { cls := gA G 100, slots := Array.replicate x.toNatClampNeg (defaultValue .int), vm := .none }) := by
      have e9 : (Array.replicate x.toNatClampNeg (defaultValue .int)) = ((List.replicate x.toNatClampNeg (aI 0)).map av_v).toArray := by
        apply Array.ext'
        simp only [Array.toList_replicate, List.map_replicate]
        rfl
      refine ⟨_, Array.getElem?_push_size, fun z => (by cases z), rfl, fun _ => rfl, Or.inr ⟨Nat.le_of_ble_eq_true rfl, rfl, e9, fun _ => ?_⟩⟩
      rw [e9]
    have o1 : ∀ q, q < H.size → (H.push { cls := gA G 100, slots := Array.replicate x.toNatClampNeg (defaultValue .int), vm := .none })[q]? = H[q]? := fun q hq => by rw [Array.getElem?_push, if_neg (Nat.ne_of_lt hq)]
    obtain ⟨g1, g2⟩ := hP.push hcell o1
    exact kk H.size g1 hHB p e s m args below meth c _ locs (cells + 1) (slots + x.toNatClampNeg) ls A g2 ⟨Nat.le_trans hS.1 (by simp), fun y h1 h2 => (o1 y (Nat.lt_of_lt_of_le h1 hS.1)).trans (hS.2.1 y h1 h2), hS.2.2⟩ (by omega) (by omega) hl
theorem vv_newarr_l {x : Int32} {N : Nat} (pc' : Nat) (hd : decode (yC Y) pc = .ok (.newarray .long, 2)) (e : pc + 2 = pc') (hw : Cond.arrayClass .long ∈ lw_all) (hx9 : ¬ x < 0) (hN : x.toNatClampNeg = N) (hN9 : N ≤ 60000000) (kk : ∀ q : Nat, h q = none → gB G ≤ q → VV G Y d mc ms Φ pc' lo (aR (some q) :: st) (hset h q (101, List.replicate N (aL 0))) k n) : VV G Y d mc ms Φ pc lo (aI x :: st) h (k + 1) (n + N) := by
  subst e
  subst hN
  intro p e s m args below meth c H locs cells slots ls A hP hS hk hn hl
  obtain ⟨hx, hb, hr, hlk, hml, hown, hts, hK, hBs, hex, hnm⟩ := id A
  have ht : vty 101 = some .long := rfl
  have hRA := hK.2.2.2.1 101 _ ht (by decide)
  refine W.newa hx hb (atype := .long) (hts _ hw) rfl hd rfl hx9 (show x.toNatClampNeg * componentBytes .long ≤ 536870912 from ?_) (show cells + 1 ≤ mc by omega) (show slots + x.toNatClampNeg ≤ ms by omega) fun cA kA comp h1 h2 h3 => ?_
  · show x.toNatClampNeg * _ ≤ _
    have : componentBytes .long ≤ 8 := by decide
    calc x.toNatClampNeg * componentBytes .long ≤ x.toNatClampNeg * 8 := Nat.mul_le_mul_left _ this
      _ ≤ 536870912 := by omega
  · have hcA : cA = gA G 101 := Option.some.inj (h1.symm.trans hRA)
    subst hcA
    have hHB : gB G ≤ H.size := Nat.le_trans hBs hS.1
    have hcell : CellOK G H.size (101, List.replicate x.toNatClampNeg (aL 0)) (H.push { cls := gA G 101, slots := Array.replicate x.toNatClampNeg (defaultValue .long), vm := .none }) := by
      have e9 : (Array.replicate x.toNatClampNeg (defaultValue .long)) = ((List.replicate x.toNatClampNeg (aL 0)).map av_v).toArray := by
        apply Array.ext'
        simp only [Array.toList_replicate, List.map_replicate]
        rfl
      refine ⟨_, Array.getElem?_push_size, fun z => (by cases z), rfl, fun _ => rfl, Or.inr ⟨Nat.le_of_ble_eq_true rfl, rfl, e9, fun _ => ?_⟩⟩
      rw [e9]
    have o1 : ∀ q, q < H.size → (H.push { cls := gA G 101, slots := Array.replicate x.toNatClampNeg (defaultValue .long), vm := .none })[q]? = H[q]? := fun q hq => by rw [Array.getElem?_push, if_neg (Nat.ne_of_lt hq)]
    obtain ⟨g1, g2⟩ := hP.push hcell o1
    exact kk H.size g1 hHB p e s m args below meth c _ locs (cells + 1) (slots + x.toNatClampNeg) ls A g2 ⟨Nat.le_trans hS.1 (by simp), fun y h1 h2 => (o1 y (Nat.lt_of_lt_of_le h1 hS.1)).trans (hS.2.1 y h1 h2), hS.2.2⟩ (by omega) (by omega) hl
theorem vv_newarr_b {x : Int32} {N : Nat} (pc' : Nat) (hd : decode (yC Y) pc = .ok (.newarray .byte, 2)) (e : pc + 2 = pc') (hw : Cond.arrayClass .byte ∈ lw_all) (hx9 : ¬ x < 0) (hN : x.toNatClampNeg = N) (hN9 : N ≤ 60000000) (kk : ∀ q : Nat, h q = none → gB G ≤ q → VV G Y d mc ms Φ pc' lo (aR (some q) :: st) (hset h q (102, List.replicate N (aI 0))) k n) : VV G Y d mc ms Φ pc lo (aI x :: st) h (k + 1) (n + N) := by
  subst e
  subst hN
  intro p e s m args below meth c H locs cells slots ls A hP hS hk hn hl
  obtain ⟨hx, hb, hr, hlk, hml, hown, hts, hK, hBs, hex, hnm⟩ := id A
  have ht : vty 102 = some .byte := rfl
  have hRA := hK.2.2.2.1 102 _ ht (by decide)
  refine W.newa hx hb (atype := .byte) (hts _ hw) rfl hd rfl hx9 (show x.toNatClampNeg * componentBytes .byte ≤ 536870912 from ?_) (show cells + 1 ≤ mc by omega) (show slots + x.toNatClampNeg ≤ ms by omega) fun cA kA comp h1 h2 h3 => ?_
  · show x.toNatClampNeg * _ ≤ _
    have : componentBytes .byte ≤ 8 := by decide
    calc x.toNatClampNeg * componentBytes .byte ≤ x.toNatClampNeg * 8 := Nat.mul_le_mul_left _ this
      _ ≤ 536870912 := by omega
  · have hcA : cA = gA G 102 := Option.some.inj (h1.symm.trans hRA)
    subst hcA
    have hHB : gB G ≤ H.size := Nat.le_trans hBs hS.1
    have hcell : CellOK G H.size (102, List.replicate x.toNatClampNeg (aI 0)) (H.push { cls := gA G 102, slots := Array.replicate x.toNatClampNeg (defaultValue .byte), vm := .none }) := by
      have e9 : (Array.replicate x.toNatClampNeg (defaultValue .byte)) = ((List.replicate x.toNatClampNeg (aI 0)).map av_v).toArray := by
        apply Array.ext'
        simp only [Array.toList_replicate, List.map_replicate]
        rfl
      refine ⟨_, Array.getElem?_push_size, fun z => (by cases z), rfl, fun _ => rfl, Or.inr ⟨Nat.le_of_ble_eq_true rfl, rfl, e9, fun _ => ?_⟩⟩
      rw [e9]
    have o1 : ∀ q, q < H.size → (H.push { cls := gA G 102, slots := Array.replicate x.toNatClampNeg (defaultValue .byte), vm := .none })[q]? = H[q]? := fun q hq => by rw [Array.getElem?_push, if_neg (Nat.ne_of_lt hq)]
    obtain ⟨g1, g2⟩ := hP.push hcell o1
    exact kk H.size g1 hHB p e s m args below meth c _ locs (cells + 1) (slots + x.toNatClampNeg) ls A g2 ⟨Nat.le_trans hS.1 (by simp), fun y h1 h2 => (o1 y (Nat.lt_of_lt_of_le h1 hS.1)).trans (hS.2.1 y h1 h2), hS.2.2⟩ (by omega) (by omega) hl
theorem vv_anewarr {x : Int32} {N i : Nat} (pc' : Nat) (hd : decode (yC Y) pc = .ok (.anewarray i, 3)) (e : pc + 3 = pc') (hw : Cond.classLink (yN Y).cls i "java/lang/Object" ∈ lw_all) (hx9 : ¬ x < 0) (hN : x.toNatClampNeg = N) (hN9 : N ≤ 60000000) (kk : ∀ q : Nat, h q = none → gB G ≤ q → VV G Y d mc ms Φ pc' lo (aR (some q) :: st) (hset h q (103, List.replicate N (aR none))) k n) : VV G Y d mc ms Φ pc lo (aI x :: st) h (k + 1) (n + N) := by
  subst e
  subst hN
  intro p e s m args below meth c H locs cells slots ls A hP hS hk hn hl
  obtain ⟨hx, hb, hr, hlk, hml, hown, hts, hK, hBs, hex, hnm⟩ := id A
  have ht : vty 103 = some (.object "java/lang/Object") := rfl
  obtain ⟨-, -, -, -, -, hRA⟩ := hK.2.2.2.1 103 _ ht (by decide)
  refine W.anew hx hb hown (hts _ hw) (va_AO.use hK.2.2.2.2.2.2.1) rfl hd rfl hx9 (by omega) (show cells + 1 ≤ mc by omega) (show slots + x.toNatClampNeg ≤ ms by omega) fun cA kA comp h1 h2 h3 h4 => ?_
  have hcA : cA = gA G 103 := Option.some.inj (h1.symm.trans hRA)
  subst hcA
  have hHB : gB G ≤ H.size := Nat.le_trans hBs hS.1
  have e9 : (Array.replicate x.toNatClampNeg Value.null) = ((List.replicate x.toNatClampNeg (aR none)).map av_v).toArray := by
    apply Array.ext'
    simp only [Array.toList_replicate, List.map_replicate]
    rfl
  have hcell : CellOK G H.size (103, List.replicate x.toNatClampNeg (aR none)) (H.push { cls := gA G 103, slots := Array.replicate x.toNatClampNeg Value.null, vm := .none }) := by
    refine ⟨_, Array.getElem?_push_size, fun z => (by cases z), rfl, fun _ => rfl, Or.inr ⟨Nat.le_of_ble_eq_true rfl, rfl, e9, fun _ => ?_⟩⟩
    rw [e9]
  have o1 : ∀ q, q < H.size → (H.push { cls := gA G 103, slots := Array.replicate x.toNatClampNeg Value.null, vm := .none })[q]? = H[q]? := fun q hq => by rw [Array.getElem?_push, if_neg (Nat.ne_of_lt hq)]
  obtain ⟨g1, g2⟩ := hP.push hcell o1
  exact kk H.size g1 hHB p e s m args below meth c _ locs (cells + 1) (slots + x.toNatClampNeg) ls A g2 ⟨Nat.le_trans hS.1 (by simp), fun y h1 h2 => (o1 y (Nat.lt_of_lt_of_le h1 hS.1)).trans (hS.2.1 y h1 h2), hS.2.2⟩ (by omega) (by omega) hl
theorem vv_gets {C nm ds : String} {fv : (Nat → Nat) → AV} {i : Nat} (pc' : Nat) (hd : decode (yC Y) pc = .ok (.getstatic i, 3)) (e : pc + 3 = pc') (hz : (C, nm, ds, fv) ∈ vst) (hw : Cond.fieldLink (yN Y).cls i C nm ds ∈ lw_all) (kk : VV G Y d mc ms Φ pc' lo (fv (gS G) :: st) h k n) : VV G Y d mc ms Φ pc lo st h k n := by
  subst e
  intro p e s m args below meth c H locs cells slots ls A hP hS hk hn hl
  obtain ⟨hx, hb, hr, hlk, hml, hown, hts, hK, hBs, hex, hnm⟩ := id A
  exact va_gets hx hb (hK.2.2.2.2.2.2.2.2.2.1 _ hz) hS hown (hts _ hw) (fun x hx => hx) hd (kk p e s m args below meth c H locs cells slots ls A hP hS hk hn hl)
theorem vv_cast {r : Option Nat} {i : Nat} (pc' : Nat) (hd : decode (yC Y) pc = .ok (.checkcast i, 3)) (e : pc + 3 = pc') (hc : ∀ a, r = some a → ∃ o, h a = some o ∧ CK (yN Y).cls i o.1) (kk : VV G Y d mc ms Φ pc' lo (aR r :: st) h k n) : VV G Y d mc ms Φ pc lo (aR r :: st) h k n := by
  subst e
  intro p e s m args below meth c H locs cells slots ls A hP hS hk hn hl
  obtain ⟨hx, hb, hr, hlk, hml, hown, hts, hK, hBs, hex, hnm⟩ := id A
  cases r with
  | none => exact lv_castN hx hb hd (kk p e s m args below meth c H locs cells slots ls A hP hS hk hn hl)
  | some a =>
    obtain ⟨⟨ci, fs⟩, hh, C, nm, T, N, hc, h1, h2⟩ := hc a rfl
    obtain ⟨cell, c1, c2, c3, c4, c5, -⟩ := cell_obj (hP a _ hh) hc
    have hfc := (hK.2.1 ci _ hc).2.1
    rcases h2 with h2 | h2
    · subst h2
      exact va_castE hx hb hown (hts _ h1) ⟨cell, c1, c3, by rw [c5]; exact hfc⟩ hd (kk p e s m args below meth c H locs cells slots ls A hP hS hk hn hl)
    · exact va_castY hx hb hown (hts _ h1) (hK.2.2.2.2.1 _ h2 rfl) ⟨cell, c1, c3, by rw [c5]; exact hfc⟩ hd (kk p e s m args below meth c H locs cells slots ls A hP hS hk hn hl)
theorem vv_castA {a i : Nat} {xs : List AV} (pc' : Nat) (hd : decode (yC Y) pc = .ok (.checkcast i, 3)) (e : pc + 3 = pc') (hh : h a = some (103, xs)) (h1 : Cond.classLink (yN Y).cls i "[Ljava/lang/Object;" ∈ lw_all) (kk : VV G Y d mc ms Φ pc' lo (aR (some a) :: st) h k n) : VV G Y d mc ms Φ pc lo (aR (some a) :: st) h k n := by
  subst e
  intro p e s m args below meth c H locs cells slots ls A hP hS hk hn hl
  obtain ⟨hx, hb, hr, hlk, hml, hown, hts, hK, hBs, hex, hnm⟩ := id A
  have ht : vty 103 = some (.object "java/lang/Object") := rfl
  obtain ⟨cell, c1, c2, c3, c4, c5, -⟩ := cell_arr (hP a _ hh) ht
  obtain ⟨-, -, -, -, -, hRA⟩ := hK.2.2.2.1 103 _ ht (by decide)
  exact va_castE hx hb hown (hts _ h1) ⟨cell, c1, c3, by rw [c4]; exact hRA⟩ hd (kk p e s m args below meth c H locs cells slots ls A hP hS hk hn hl)
theorem vv_inst {a i : Nat} {o : HO} (pc' : Nat) (hd : decode (yC Y) pc = .ok (.instanceof i, 3)) (e : pc + 3 = pc') (hh : h a = some o) (hc : CK (yN Y).cls i o.1) (kk : VV G Y d mc ms Φ pc' lo (aI 1 :: st) h k n) : VV G Y d mc ms Φ pc lo (aR (some a) :: st) h k n := by
  subst e
  intro p e s m args below meth c H locs cells slots ls A hP hS hk hn hl
  obtain ⟨hx, hb, hr, hlk, hml, hown, hts, hK, hBs, hex, hnm⟩ := id A
  obtain ⟨ci, fs⟩ := o
  obtain ⟨C, nm, T, N, hc, h1, h2⟩ := hc
  obtain ⟨cell, c1, c2, c3, c4, c5, -⟩ := cell_obj (hP a _ hh) hc
  have hfc := (hK.2.1 ci _ hc).2.1
  rcases h2 with h2 | h2
  · subst h2
    exact va_instE hx hb hown (hts _ h1) ⟨cell, c1, c3, by rw [c5]; exact hfc⟩ hd (kk p e s m args below meth c H locs cells slots ls A hP hS hk hn hl)
  · exact va_instY hx hb hown (hts _ h1) (hK.2.2.2.2.1 _ h2 rfl) ⟨cell, c1, c3, by rw [c5]; exact hfc⟩ hd (kk p e s m args below meth c H locs cells slots ls A hP hS hk hn hl)
theorem vv_objinit {a i : Nat} (pc' : Nat) (hd : decode (yC Y) pc = .ok (.invokespecial i, 3)) (e : pc + 3 = pc') (hw : Cond.methodLink (yN Y).cls i Lib.objectInit ∈ lw_all) (hd1 : 1 ≤ d) (hst : (st.map av_c).sum ≤ 50) (kk : VV G Y d mc ms Φ pc' lo st h k n) : VV G Y d mc ms Φ pc lo (aR (some a) :: st) h k n := by
  subst e
  intro p e s m args below meth c H locs cells slots ls A hP hS hk hn hl
  obtain ⟨hx, hb, hr, hlk, hml, hown, hts, hK, hBs, hex, hnm⟩ := id A
  exact W.objInit hx hb hown (hts _ hw) (hts _ q118) (hts _ q119) rfl (by rw [hml]; exact hl.1) rfl hd (show 1 ≤ d from hd1) (show 2 * 0 + _ + 12 ≤ 64 * d by rw [av_cs]; omega) (kk p e s m args below meth c H locs cells slots ls A hP hS hk hn hl)
end HRUL
