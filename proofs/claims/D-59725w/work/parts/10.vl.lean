/-! THE LAYER V: a method's walk over an abstract heap. A value is an int, a reference or null, a long or a double; the heap a partial map from addresses to (kind, values). VV: from this point the method comes to an end that the post allows. Cal: a method's contract at given arguments and heap. -/
abbrev AV : Type := (Int32 ⊕ Option Nat) ⊕ (Int64 ⊕ UInt64)
abbrev aI (x : Int32) : AV := .inl (.inl x)
abbrev aR (r : Option Nat) : AV := .inl (.inr r)
abbrev aL (x : Int64) : AV := .inr (.inl x)
abbrev aD (x : UInt64) : AV := .inr (.inr x)
def av_v : AV → Value
  | .inl (.inl x) => .int x
  | .inl (.inr r) => va_rf r
  | .inr (.inl x) => .long x
  | .inr (.inr x) => .double x
def av_c : AV → Nat
  | .inl _ => 1
  | .inr _ => 2
theorem va_rf_c (r : Option Nat) : (va_rf r).category = 1 := by cases r <;> rfl
theorem av_vc (v : AV) : (av_v v).category = av_c v := by
  rcases v with (x | r) | (x | x)
  · rfl
  · exact va_rf_c r
  · rfl
  · rfl
theorem av_cs (st : List AV) : ((st.map av_v).map fun v => v.category).sum = (st.map av_c).sum := by
  induction st with
  | nil => rfl
  | cons a l ih =>
    simp only [List.map_cons, List.sum_cons]
    rw [ih, av_vc]
/-! the locals -/
def lo_clr : List (Option AV) → List (Option AV)
  | [] => []
  | _ :: t => none :: t
def lo_put : List (Option AV) → Nat → AV → List (Option AV)
  | [], _, _ => []
  | _ :: t, 0, .inl a => some (.inl a) :: t
  | _ :: t, 0, .inr a => some (.inr a) :: lo_clr t
  | some (.inr _) :: t, 1, v => none :: lo_put t 0 v
  | x :: t, n + 1, v => x :: lo_put t n v
def lo_ok (ls : Array Slot) (n : Nat) (lo : List (Option AV)) : Prop := ls.size = n ∧ lv_wf ls ∧ ∀ (i : Nat) (v : AV), lo[i]? = some (some v) → ls[i]? = some (.val (av_v v))
theorem lo_at {ls : Array Slot} {n i : Nat} {lo : List (Option AV)} {v : AV} (h : lo_ok ls n lo) (hv : lo[i]? = some (some v)) : ls[i]? = some (.val (av_v v)) := h.2.2 i v hv
def lo_l (lo : List (Option AV)) : List (Nat × Value) := (List.range lo.length).filterMap fun i => match lo[i]? with
  | some (some v) => some (i, av_v v)
  | _ => none
theorem lo_l_mem {lo : List (Option AV)} {q : Nat × Value} : q ∈ lo_l lo ↔ ∃ v, lo[q.1]? = some (some v) ∧ q.2 = av_v v := by
  unfold lo_l
  rw [List.mem_filterMap]
  constructor
  · rintro ⟨i, -, hi⟩
    split at hi
    · rename_i v hv
      cases hi
      exact ⟨v, hv, rfl⟩
    · cases hi
  · rintro ⟨v, hv, hq⟩
    refine ⟨q.1, List.mem_range.mpr (List.getElem?_eq_some_iff.mp hv).1, ?_⟩
    rw [hv]
    show some (q.1, av_v v) = some q
    rw [← hq]
theorem lo_has {ls : Array Slot} {n : Nat} {lo : List (Option AV)} : lo_ok ls n lo ↔ lv_has ls n (lo_l lo) := by
  constructor
  · rintro ⟨h1, h2, h3⟩
    refine ⟨h1, h2, fun q hq => ?_⟩
    obtain ⟨v, hv, e⟩ := lo_l_mem.mp hq
    rw [e]
    exact h3 _ _ hv
  · rintro ⟨h1, h2, h3⟩
    refine ⟨h1, h2, fun i v hv => h3 (i, av_v v) (lo_l_mem.mpr ⟨v, hv, rfl⟩)⟩
theorem lo_clr_at {t : List (Option AV)} {j : Nat} {w : AV} (h : (lo_clr t)[j]? = some (some w)) : j ≠ 0 ∧ t[j]? = some (some w) := by
  cases t with
  | nil => simp [lo_clr] at h
  | cons a t =>
    cases j with
    | zero => simp [lo_clr] at h
    | succ j => exact ⟨Nat.succ_ne_zero _, by simpa [lo_clr] using h⟩
theorem lo_put_at : ∀ (lo : List (Option AV)) (i : Nat) (v : AV) (j : Nat) (w : AV), (lo_put lo i v)[j]? = some (some w) → (j = i ∧ w = v) ∨ (j ≠ i ∧ lo[j]? = some (some w) ∧ ¬ (j + 1 = i ∧ av_c w = 2) ∧ ¬ (j = i + 1 ∧ av_c v = 2)) := by
  intro lo
  induction lo with
  | nil => intro i v j w h; simp [lo_put] at h
  | cons x t ih =>
    intro i v j w h
    cases i with
    | zero =>
      rcases v with a | a
      · cases j with
        | zero => simp [lo_put] at h; exact Or.inl ⟨rfl, h.symm⟩
        | succ j =>
          simp only [lo_put, List.getElem?_cons_succ] at h
          exact Or.inr ⟨by omega, by simpa using h, by omega, by rintro ⟨-, q⟩; cases q⟩
      · cases j with
        | zero => simp [lo_put] at h; exact Or.inl ⟨rfl, h.symm⟩
        | succ j =>
          simp only [lo_put, List.getElem?_cons_succ] at h
          obtain ⟨h1, h2⟩ := lo_clr_at h
          exact Or.inr ⟨by omega, by simpa using h2, by omega, by rintro ⟨q, -⟩; omega⟩
    | succ i =>
      by_cases hc : i = 0 ∧ ∃ y, x = some (.inr y)
      · obtain ⟨rfl, y, rfl⟩ := hc
        rw [show lo_put (some (.inr y) :: t) (0 + 1) v = none :: lo_put t 0 v from rfl] at h
        cases j with
        | zero => simp at h
        | succ j =>
          rw [List.getElem?_cons_succ] at h
          rcases ih 0 v j w h with ⟨h1, h2⟩ | ⟨h1, h2, h3, h4⟩
          · exact Or.inl ⟨by omega, h2⟩
          · exact Or.inr ⟨by omega, by simpa using h2, by omega, by rintro ⟨q, q2⟩; exact h4 ⟨by omega, q2⟩⟩
      · have e : lo_put (x :: t) (i + 1) v = x :: lo_put t i v := by
          cases i with
          | zero =>
            rcases x with _ | (x | x)
            · rfl
            · rfl
            · exact absurd ⟨rfl, x, rfl⟩ hc
          | succ i => rcases x with _ | (x | x) <;> rfl
        rw [e] at h
        cases j with
        | zero =>
          simp only [List.getElem?_cons_zero, Option.some.injEq] at h
          refine Or.inr ⟨by omega, by simp [h], ?_, by omega⟩
          rintro ⟨q, q2⟩
          subst h
          rcases w with w | w
          · cases q2
          · exact hc ⟨by omega, w, rfl⟩
        | succ j =>
          rw [List.getElem?_cons_succ] at h
          rcases ih i v j w h with ⟨h1, h2⟩ | ⟨h1, h2, h3, h4⟩
          · exact Or.inl ⟨by omega, h2⟩
          · exact Or.inr ⟨by omega, by simpa using h2, by rintro ⟨q, q2⟩; exact h3 ⟨by omega, q2⟩, by rintro ⟨q, q2⟩; exact h4 ⟨by omega, q2⟩⟩
theorem lo_st1 {ls : Array Slot} {n i : Nat} {lo : List (Option AV)} {v : AV} (hc : av_c v = 1) (h : lv_has ls n ((i, av_v v) :: (lo_l lo).filter (fun q => !(q.1 == i) && !(q.1 + 1 == i && q.2.category == 2)))) : lo_ok ls n (lo_put lo i v) := by
  obtain ⟨h1, h2, h3⟩ := h
  refine ⟨h1, h2, fun j w hj => ?_⟩
  rcases lo_put_at lo i v j w hj with ⟨rfl, rfl⟩ | ⟨a1, a2, a3, a4⟩
  · exact h3 (_, _) List.mem_cons_self
  · refine h3 (j, av_v w) (List.mem_cons_of_mem _ (List.mem_filter.mpr ⟨lo_l_mem.mpr ⟨w, a2, rfl⟩, ?_⟩))
    simp only [Bool.and_eq_true, Bool.not_eq_true', beq_eq_false_iff_ne, ne_eq, Bool.and_eq_false_iff, av_vc]
    refine ⟨a1, ?_⟩
    by_cases hq : j + 1 = i
    · exact Or.inr fun z => a3 ⟨hq, z⟩
    · exact Or.inl hq
theorem lo_st2 {ls : Array Slot} {n i : Nat} {lo : List (Option AV)} {v : AV} (hc : av_c v = 2) (h : lv_has ls n ((i, av_v v) :: (lo_l lo).filter (fun q => !(q.1 == i) && (!(q.1 == i + 1) && !(q.1 + 1 == i && q.2.category == 2))))) : lo_ok ls n (lo_put lo i v) := by
  obtain ⟨h1, h2, h3⟩ := h
  refine ⟨h1, h2, fun j w hj => ?_⟩
  rcases lo_put_at lo i v j w hj with ⟨rfl, rfl⟩ | ⟨a1, a2, a3, a4⟩
  · exact h3 (_, _) List.mem_cons_self
  · refine h3 (j, av_v w) (List.mem_cons_of_mem _ (List.mem_filter.mpr ⟨lo_l_mem.mpr ⟨w, a2, rfl⟩, ?_⟩))
    simp only [Bool.and_eq_true, Bool.not_eq_true', beq_eq_false_iff_ne, ne_eq, Bool.and_eq_false_iff, av_vc]
    refine ⟨a1, fun z => a4 ⟨z, hc⟩, ?_⟩
    by_cases hq : j + 1 = i
    · exact Or.inr fun z => a3 ⟨hq, z⟩
    · exact Or.inl hq
/-! the world -/
abbrev HO : Type := Nat × List AV
abbrev Hp : Type := Nat → Option HO
def hset (h : Hp) (a : Nat) (o : HO) : Hp := fun q => if q = a then some o else h q
theorem hset_eq (h : Hp) (a : Nat) (o : HO) : hset h a o a = some o := by simp [hset]
theorem hset_ne (h : Hp) {a b : Nat} (o : HO) (hab : b ≠ a) : hset h a o b = h b := by simp [hset, hab]
/-- the launch; the class numbers and the field places; the array classes; where the run's own cells begin; some cells that stood before -/
abbrev WG : Type := Launch × va_G × (Nat → ClassId) × Nat × (Nat → Nat)
abbrev gl (G : WG) : Launch := G.1
abbrev gD (G : WG) : va_G := G.2.1
abbrev gA (G : WG) : Nat → ClassId := G.2.2.1
abbrev gB (G : WG) : Nat := G.2.2.2.1
abbrev gS (G : WG) : Nat → Nat := G.2.2.2.2
def gF (G : WG) : Nat → Prop := fun q => gB G ≤ q
def CellOK (G : WG) (a : Nat) (o : HO) (H : Heap) : Prop :=
  ∃ cell : Cell, H[a]? = some cell ∧ cell.vm ≠ .unknown ∧ cell.vm.isStatics = false ∧ (gB G ≤ a → cell.vm = .none) ∧
    ((o.1 < 100 ∧ cell.cls = (gD G).1 o.1 ∧ ∃ r : vw_C, vcl[o.1]? = some r ∧ o.2.length = r.2.2 ∧ ∀ (k : Nat) (v : AV), o.2[k]? = some v → cell.slots[(gD G).2 o.1 k]? = some (av_v v)) ∨
     (100 ≤ o.1 ∧ cell.cls = gA G o.1 ∧ cell.slots = (o.2.map av_v).toArray ∧ (gB G ≤ a → cell = { cls := gA G o.1, slots := (o.2.map av_v).toArray, vm := .none })))
def HP (G : WG) (h : Hp) (H : Heap) : Prop := ∀ (a : Nat) (o : HO), h a = some o → CellOK G a o H
theorem CellOK.kept {G : WG} {a : Nat} {o : HO} {H H1 : Heap} (h : CellOK G a o H) (e : H1[a]? = H[a]?) : CellOK G a o H1 := by
  obtain ⟨cell, h1, h2⟩ := h
  exact ⟨cell, by rw [e]; exact h1, h2⟩
theorem CellOK.lt {G : WG} {a : Nat} {o : HO} {H : Heap} (h : CellOK G a o H) : a < H.size := by
  obtain ⟨cell, h1, -⟩ := h
  exact (Array.getElem?_eq_some_iff.mp h1).1
theorem HP.lt {G : WG} {h : Hp} {H : Heap} (hP : HP G h H) {a : Nat} {o : HO} (ha : h a = some o) : a < H.size := (hP a o ha).lt
theorem HP.set {G : WG} {h : Hp} {H H1 : Heap} (hP : HP G h H) {a : Nat} {o : HO} (ho : CellOK G a o H1) (e : ∀ q, q ≠ a → H1[q]? = H[q]?) : HP G (hset h a o) H1 := by
  intro q o' hq
  by_cases hqa : q = a
  · subst hqa
    rw [hset_eq] at hq
    cases hq
    exact ho
  · rw [hset_ne h o hqa] at hq
    exact (hP q o' hq).kept (e q hqa)
theorem HP.push {G : WG} {h : Hp} {H H1 : Heap} (hP : HP G h H) {o : HO} (ho : CellOK G H.size o H1) (e : ∀ q, q < H.size → H1[q]? = H[q]?) : h H.size = none ∧ HP G (hset h H.size o) H1 := by
  refine ⟨?_, fun q o' hq => ?_⟩
  · cases hx : h H.size with
    | none => rfl
    | some o' => exact absurd (hP.lt hx) (Nat.lt_irrefl _)
  · by_cases hqa : q = H.size
    · subst hqa
      rw [hset_eq] at hq
      cases hq
      exact ho
    · rw [hset_ne h o hqa] at hq
      exact (hP q o' hq).kept (e q (hP.lt hq))
theorem HP.keptAll {G : WG} {h : Hp} {H H1 : Heap} (hP : HP G h H) (e : ∀ q, q < H.size → H1[q]? = H[q]?) : HP G h H1 := fun q o hq => (hP q o hq).kept (e q (hP.lt hq))
/-- words of the tables that hold all through a run, though no list carries them -/
def pw : Cond → Bool
  | .fieldLinkNest _ _ _ _ _ _ => true
  | .methodLinkNest _ _ _ _ => true
  | .declares _ => true
  | .castable _ _ => true
  | _ => false
theorem pw_moved {w : Cond} (hw : pw w = true) {s U : State} (hW : s.WarmedH U.vm) (h : va_Nw w s) : va_Nw w U := by
  cases w with
  | fieldLinkNest a i b n d hh => exact va_Nw.warmF hW h
  | methodLinkNest a i x hh => exact va_Nw.warmM hW h
  | declares x => exact va_Nw.warmD hW h
  | castable C T => exact va_Nw.warmC hW h
  | _ => cases hw
theorem pw_tab {w : Cond} (hw : pw w = true) : w.onTables = true := by
  cases w <;> first | rfl | cases hw
/-- what is known of the world at a method's entry -/
def KN (G : WG) (U : State) : Prop :=
  (gl G).stackTraces = false ∧
  (∀ (c : Nat) (q : vw_C), vcl[c]? = some q → u_Kn U q.1 q.2.1 q.2.2 ((gD G).1 c) ((gD G).2 c)) ∧
  (∀ (t : Nat) (ty : FieldType), vty t = some ty → ArrOfT U (gA G t) ty) ∧
  (∀ (t : Nat) (ty : FieldType), vty t = some ty → t < 104 → va_RA U (gA G t) ty) ∧
  (∀ w ∈ lw_tbl, pw w = true → va_Nw w U) ∧
  (∀ z ∈ vfw, va_Fw z.1 z.2.1 z.2.2 U) ∧
  va_AO "java/lang/Object" U ∧
  (va_Mi "[Ljava/lang/Object;" (gS G 300) U ∧ va_Dc U) ∧
  (vx_Zq Bundle.tN "UNASSIGNED_STACK" Bundle.steD (gF G) U U.heap ∧ vx_Zq Bundle.tN "SUPPRESSED_SENTINEL" Bundle.listD (gF G) U U.heap) ∧
  (∀ z ∈ vst, va_Z z.1 z.2.1 z.2.2.1 (av_v (z.2.2.2 (gS G))) (gF G) U U.heap) ∧
  (∀ z ∈ vnc, va_Nc z.1 z.2 U)
theorem KN.moved {G : WG} {s U : State} (h : KN G s) (hW : s.WarmedH U.vm) (hq : ∀ a : Nat, a < s.heap.size → ¬ gF G a → U.heap[a]? = s.heap[a]?) : KN G U := by
  obtain ⟨h0, h1, h2, h3, h4, h5, h6, ⟨h7, h7b⟩, ⟨h8, h9⟩, h10, h11⟩ := h
  have hA := hW.alike
  exact ⟨h0, fun c q hc => u_Kn_moved hA (h1 c q hc), fun t ty ht => arrOfT_moved hA (h2 t ty ht), fun t ty ht hl => va_RA.moved hA (h3 t ty ht hl), fun w hw hp => pw_moved hp hW (h4 w hw hp),
    fun z hz => va_Fw.moved (vfw_no z hz) hA (h5 z hz), va_AO.moved hA h6, ⟨va_Mi.moved hA h7, va_Dc.moved hA h7b⟩, ⟨vx_Zq.moved hA (h8.kept hq), vx_Zq.moved hA (h9.kept hq)⟩, fun z hz => va_Z.moved hA ((h10 z hz).kept hq), fun z hz => va_Nc.moved hA (h11 z hz)⟩
theorem KN.same {G : WG} {u U : State} (h : KN G u) (hv : u.vm = U.vm) (hh : u.heap = U.heap) : KN G U := by
  refine h.moved (by rw [← hv]; exact State.WarmedH.refl u) (fun a _ _ => by rw [hh])
theorem isArr_of {U : State} {cA : ClassId} {ty : FieldType} (h : ArrOfT U cA ty) {cell : Cell} (hc : cell.cls = cA) (hv : cell.vm.isStatics = false) : U.isArrayOf cell ty := by
  refine ⟨fun k e => ?_, ?_⟩
  · rw [e] at hv; cases hv
  · rw [hc]
    exact (h 0 (fun _ => .null)).2
/-! a method: its name, code, locals, answer, handlers -/
abbrev MY : Type := MethodName × ByteArray × Nat × Option FieldType × List (Nat × Nat × Nat × Nat)
abbrev yN (Y : MY) : MethodName := Y.1
abbrev yC (Y : MY) : ByteArray := Y.2.1
abbrev yL (Y : MY) : Nat := Y.2.2.1
abbrev yR (Y : MY) : Option FieldType := Y.2.2.2.1
abbrev yH (Y : MY) : List (Nat × Nat × Nat × Nat) := Y.2.2.2.2
abbrev Rs : Type := Option AV ⊕ String
def rmv (d mc ms : Nat) : Room := { frames := d, cells := mc, slots := ms, locals := 64 * d }
def PcV (G : WG) (args : List AV) (h : Hp) : Array Value → State → Prop := fun a U => a = (args.map av_v).toArray ∧ HP G h U.heap ∧ KN G U ∧ gB G ≤ U.heap.size
def QV (G : WG) (Φ : Rs → Hp → Prop) : Array Value → State → Outcome → State → Prop := fun _ st oc t => ∃ (r : Option AV) (h' : Hp), oc = .returned (r.map av_v) ∧ Φ (.inl r) h' ∧ HP G h' t.heap ∧ va_F (gF G) st t
def XV (G : WG) (Φ : Rs → Hp → Prop) : String → State → State → Prop := fun E st t => ∃ h' : Hp, Φ (.inr E) h' ∧ HP G h' t.heap ∧ va_F (gF G) st t
def wsY (Y : MY) : List Cond := match yH Y with
  | [] => ws_ (yN Y) (yC Y) (yL Y) (yR Y)
  | hh => wsW_ (yN Y) (yC Y) (yL Y) (yR Y) hh
/-- the contract of Y at these arguments in this heap, of depth d, making at most mc cells of ms slots -/
def Cal (G : WG) (Y : MY) (d mc ms : Nat) (args : List AV) (h : Hp) (Φ : Rs → Hp → Prop) : Prop :=
  vx_Met (gl G) (yN Y) (wsY Y) (rmv d mc ms) (PcV G args h) (QV G Φ) (XV G Φ) mc ms (gF G)
/-- what holds at every point of a walk -/
def Amb (G : WG) (Y : MY) (p : Program) (s : State) (m : MethodId) (args : Array Value) (meth : Method) (c : Code) : Prop :=
  p.tables.exec = Jvm.exec ∧ c.code = yC Y ∧ meth.sig.returnType = yR Y ∧ meth.locks = false ∧ c.maxLocals = yL Y ∧ s.vm.findClass (yN Y).cls = some m.cls ∧ (∀ w ∈ lw_all, w.before args s = true) ∧ KN G s ∧ gB G ≤ s.heap.size ∧
    c.exceptionTable.toList = tableOf (yH Y) ∧ meth.name = (yN Y).name
def VV (G : WG) (Y : MY) (d mc ms : Nat) (Φ : Rs → Hp → Prop) (pc : Nat) (lo : List (Option AV)) (st : List AV) (h : Hp) (k n : Nat) : Prop :=
  ∀ (p : Program) (e : Env) (s : State) (m : MethodId) (args : Array Value) (below : List Frame) (meth : Method) (c : Code) (H : Heap) (locs : List Loc) (cells slots : Nat) (ls : Array Slot), Amb G Y p s m args meth c → HP G h H → va_S (gF G) s.heap H locs → cells + k ≤ mc → slots + n ≤ ms → lo_ok ls (yL Y) lo →
    W p (gl G) e (rmv d mc ms) s m args below meth c H locs cells slots (vx_MQ below (QV G Φ) (XV G Φ) args s mc ms (gF G)) (F0 m pc ls (st.map av_v))
/-- the method's point pc with an exception of the class E over it -/
def VX (G : WG) (Y : MY) (d mc ms : Nat) (Φ : Rs → Hp → Prop) (pc : Nat) (lo : List (Option AV)) (st : List AV) (E : String) (h : Hp) (k n : Nat) : Prop :=
  ∀ (p : Program) (e : Env) (s : State) (m : MethodId) (args : Array Value) (below : List Frame) (meth : Method) (c : Code) (H : Heap) (locs : List Loc) (cells slots : Nat) (ls : Array Slot) (q : Addr) (ce : Cell), Amb G Y p s m args meth c → HP G h H → va_S (gF G) s.heap H locs → cells + k ≤ mc → slots + n ≤ ms → lo_ok ls (yL Y) lo →
    H[q]? = some ce → ce.vm = .none → s.vm.findClass E = some ce.cls →
    vx_W p (gl G) e (rmv d mc ms) s m args below meth c H locs cells slots (vx_MQ below (QV G Φ) (XV G Φ) args s mc ms (gF G)) (F0 m pc ls (st.map av_v)) q
