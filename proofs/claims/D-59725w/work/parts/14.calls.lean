/-! THE LAYER V: a method's entry, and its calls -/
def lo_in : List AV → Nat → List (Option AV)
  | [], n => List.replicate n none
  | .inl a :: t, n => some (.inl a) :: lo_in t (n - 1)
  | .inr a :: t, n => some (.inr a) :: none :: lo_in t (n - 2)
theorem lo_in_at : ∀ (args : List AV) (n i j : Nat) (v : AV), (lo_in args n)[j]? = some (some v) → (i + j, av_v v) ∈ lv_args i (args.map av_v) := by
  intro args
  induction args with
  | nil =>
    intro n i j v h
    simp only [lo_in, List.getElem?_replicate] at h
    split at h <;> cases h
  | cons a t ih =>
    intro n i j v h
    rcases a with a | a
    · cases j with
      | zero =>
        simp only [lo_in, List.getElem?_cons_zero, Option.some.injEq] at h
        subst h
        exact List.mem_cons_self
      | succ j =>
        simp only [lo_in, List.getElem?_cons_succ] at h
        have h2 := ih _ (i + 1) _ _ h
        refine List.mem_cons_of_mem _ ?_
        show _ ∈ lv_args (if (av_v (.inl a)).category = 2 then i + 2 else i + 1) (t.map av_v)
        rw [av_vc, if_neg (by show ¬ (1 = 2); decide), show i + (j + 1) = i + 1 + j by omega]
        exact h2
    · cases j with
      | zero =>
        simp only [lo_in, List.getElem?_cons_zero, Option.some.injEq] at h
        subst h
        exact List.mem_cons_self
      | succ j =>
        cases j with
        | zero => simp [lo_in] at h
        | succ j =>
          simp only [lo_in, List.getElem?_cons_succ] at h
          have h2 := ih _ (i + 2) _ _ h
          refine List.mem_cons_of_mem _ ?_
          show _ ∈ lv_args (if (av_v (.inr a)).category = 2 then i + 2 else i + 1) (t.map av_v)
          rw [av_vc, if_pos (by rfl), show i + (j + 1 + 1) = i + 2 + j by omega]
          exact h2
theorem lg_sl_len (args : List AV) : (lg_sl (args.map av_v)).length = (args.map av_c).sum := by
  induction args with
  | nil => rfl
  | cons a t ih =>
    have e : lg_sl ((a :: t).map av_v) = (if (av_v a).category = 2 then [.val (av_v a), .second] else [.val (av_v a)]) ++ lg_sl (t.map av_v) := by simp [lg_sl]
    rw [e, List.length_append, ih, List.map_cons, List.sum_cons, av_vc]
    rcases a with a | a
    · rw [if_neg (by show ¬ (1 = 2); decide)]; rfl
    · rw [if_pos (by rfl)]; rfl
theorem PcV_blind (G : WG) (args : List AV) (h : Hp) : FrameBlind (PcV G args h) := by
  intro a U g mk hp
  obtain ⟨h1, h2, h3, h4⟩ := hp
  exact ⟨h1, h2, h3.same rfl rfl, h4⟩
theorem Cal.of {G : WG} {Y : MY} {d mc ms : Nat} {args : List AV} {h : Hp} {Φ : Rs → Hp → Prop} {lo : List (Option AV)} (hH : yH Y = []) (hy : plainFor (yN Y) = true) (hlen : (args.map av_c).sum ≤ yL Y) (hlo : lo_in args (yL Y) = lo) (body : VV G Y d mc ms Φ 0 lo [] h mc ms) : Cal G Y d mc ms args h Φ := by
  subst hlo
  unfold Cal
  rw [show wsY Y = ws_ (yN Y) (yC Y) (yL Y) (yR Y) by unfold wsY; rw [hH]]
  refine MetFree.of_bodySF (code := yC Y) (maxLocals := yL Y) (ret := yR Y) hy ?_ ?_
  · intro args s m h hn
    obtain ⟨meth, c, h1, h2, h3, h4, h5, h6, -, -⟩ := Cond.code_spec hn (atoms_spec (ws := ws_ (yN Y) (yC Y) (yL Y) (yR Y)) h _ List.mem_cons_self)
    exact ⟨meth, c, h1, h2, h3, h4, h5, h6⟩
  · intro p e s m args' below meth c s₁ B hml hv _
    have hh0 : s₁.heap = s.heap := by rw [B.state]; rfl
    have hts0 := atoms_spec (ws := ws_ (yN Y) (yC Y) (yL Y) (yR Y)) B.pre
    have hts : ∀ w ∈ lw_all, w.before args' s = true := fun w h => hts0 w (List.mem_cons_of_mem _ h)
    have htab : c.exceptionTable.toList = tableOf (yH Y) := by
      obtain ⟨meth9, c9, h1, h2, -, -, -, -, h7, -⟩ := Cond.code_spec B.named (hts0 _ List.mem_cons_self)
      cases Option.some.inj (h1.symm.trans B.method)
      cases Option.some.inj (h2.symm.trans (Stand.of_body B).code)
      rw [hH, Array.isEmpty_iff.mp h7]
      rfl
    obtain ⟨rfl, hP, hK, hB⟩ := hv
    have hl := lv_entry (args.map av_v) (n := yL Y) (by rw [lg_sl_len]; exact hlen)
    have hlo : lo_ok ((lg_sl (args.map av_v) ++ List.replicate (yL Y - (lg_sl (args.map av_v)).length) Slot.unset).toArray) (yL Y) (lo_in args (yL Y)) :=
      ⟨hl.1, hl.2.1, fun i v hi => hl.2.2 (i, av_v v) (by have := lo_in_at args _ 0 i v hi; rwa [Nat.zero_add] at this)⟩
    have key := body p e s m _ below meth c s.heap [] 0 0 _ ⟨B.exec, B.bytes, B.returns, B.notSynchronized, hml, findClass_of_methodNamed B.named, hts, hK, hB, htab, (name_of_methodNamed B.named B.method).1⟩ hP va_S.rf (by omega) (by omega) hlo
    rw [lg_entry_eq]
    obtain ⟨t, a1, o, b1, b2, b3⟩ := key s₁ hh0 (Stand.of_body B)
    exact ⟨t, o, a1, b1, b2, b3⟩
theorem Cal.ofH {G : WG} {Y : MY} {d mc ms : Nat} {args : List AV} {h : Hp} {Φ : Rs → Hp → Prop} {lo : List (Option AV)} (hH : wsY Y = wsW_ (yN Y) (yC Y) (yL Y) (yR Y) (yH Y)) (hy : plainName (yN Y).cls = true) (hlen : (args.map av_c).sum ≤ yL Y) (hlo : lo_in args (yL Y) = lo) (body : VV G Y d mc ms Φ 0 lo [] h mc ms) : Cal G Y d mc ms args h Φ := by
  subst hlo
  unfold Cal
  rw [hH]
  refine vx_ofWH (cc := yC Y) (maxL := yL Y) (ret := yR Y) (hh := yH Y) hy rfl ?_
  intro p e s m args' below meth c s₁ B hml hv
  have hts0 := atoms_spec (ws := wsW_ (yN Y) (yC Y) (yL Y) (yR Y) (yH Y)) B.pre
  have hts : ∀ w ∈ lw_all, w.before args' s = true := fun w h => hts0 w (List.mem_cons_of_mem _ h)
  have htab : c.exceptionTable.toList = tableOf (yH Y) := vx_table (x := yN Y) B (hts0 _ List.mem_cons_self)
  obtain ⟨rfl, hP, hK, hB⟩ := hv
  have hl := lv_entry (args.map av_v) (n := yL Y) (by rw [lg_sl_len]; exact hlen)
  have hlo : lo_ok ((lg_sl (args.map av_v) ++ List.replicate (yL Y - (lg_sl (args.map av_v)).length) Slot.unset).toArray) (yL Y) (lo_in args (yL Y)) :=
    ⟨hl.1, hl.2.1, fun i v hi => hl.2.2 (i, av_v v) (by have := lo_in_at args _ 0 i v hi; rwa [Nat.zero_add] at this)⟩
  rw [lg_entry_eq]
  exact body p e s m _ below meth c s.heap [] 0 0 _ ⟨B.exec, B.bytes, B.returns, B.notSynchronized, hml, findClass_of_methodNamed B.named, hts, hK, hB, htab, (name_of_methodNamed B.named B.method).1⟩ hP va_S.rf (by omega) (by omega) hlo
theorem Cal.mono {G : WG} {Y : MY} {d mc ms : Nat} {args : List AV} {h : Hp} {Φ Φ' : Rs → Hp → Prop} (hC : Cal G Y d mc ms args h Φ) (hi : ∀ r h', Φ r h' → Φ' r h') : Cal G Y d mc ms args h Φ' := by
  intro p e ha hc hk s m args' below hf happ hP hK'
  obtain ⟨k, o, h1, h2, h3, h4⟩ := hC p e ha hc hk s m args' below hf happ hP hK'
  refine ⟨k, o, h1, h2, h3, ?_⟩
  rcases h4 with ⟨⟨r, h', e1, e2, e3⟩, h5⟩ | ⟨q, e0, E, ce, L, ⟨h', e1, e2⟩, h5⟩
  · exact Or.inl ⟨⟨r, h', e1, hi _ _ e2, e3⟩, h5⟩
  · exact Or.inr ⟨q, e0, E, ce, L, ⟨h', hi _ _ e1, e2⟩, h5⟩
/-! the answers' kinds -/
def pI (P : Int32 → Hp → Prop) : Rs → Hp → Prop := fun r h => ∃ x, r = .inl (some (aI x)) ∧ P x h
def pL (P : Int64 → Hp → Prop) : Rs → Hp → Prop := fun r h => ∃ x, r = .inl (some (aL x)) ∧ P x h
def pD (P : UInt64 → Hp → Prop) : Rs → Hp → Prop := fun r h => ∃ x, r = .inl (some (aD x)) ∧ P x h
def pR (P : Option Nat → Hp → Prop) : Rs → Hp → Prop := fun r h => ∃ x, r = .inl (some (aR x)) ∧ P x h
def pV (P : Hp → Prop) : Rs → Hp → Prop := fun r h => r = .inl none ∧ P h
/-- what is owed behind a call: at its return, at its throw -/
def Aft (G : WG) (Y : MY) (d mc ms : Nat) (Φ : Rs → Hp → Prop) (pc pc' : Nat) (lo : List (Option AV)) (st : List AV) (k n : Nat) (Φ' : Rs → Hp → Prop) : Prop :=
  (∀ (r : Option AV) (h' : Hp), Φ' (.inl r) h' → VV G Y d mc ms Φ pc' lo (r.toList ++ st) h' k n) ∧ ∀ (E : String) (h' : Hp), Φ' (.inr E) h' → VX G Y d mc ms Φ pc lo st E h' k n
section AFT
variable {G : WG} {Y : MY} {d mc ms : Nat} {Φ : Rs → Hp → Prop} {pc pc' : Nat} {lo : List (Option AV)} {st : List AV} {k n : Nat}
theorem aft_I {P : Int32 → Hp → Prop} (kk : ∀ x h', P x h' → VV G Y d mc ms Φ pc' lo (aI x :: st) h' k n) : Aft G Y d mc ms Φ pc pc' lo st k n (pI P) :=
  ⟨fun r h' ⟨x, e, hp⟩ => by cases e; exact kk x h' hp, fun E h' ⟨x, e, hp⟩ => by cases e⟩
theorem aft_L {P : Int64 → Hp → Prop} (kk : ∀ x h', P x h' → VV G Y d mc ms Φ pc' lo (aL x :: st) h' k n) : Aft G Y d mc ms Φ pc pc' lo st k n (pL P) :=
  ⟨fun r h' ⟨x, e, hp⟩ => by cases e; exact kk x h' hp, fun E h' ⟨x, e, hp⟩ => by cases e⟩
theorem aft_D {P : UInt64 → Hp → Prop} (kk : ∀ x h', P x h' → VV G Y d mc ms Φ pc' lo (aD x :: st) h' k n) : Aft G Y d mc ms Φ pc pc' lo st k n (pD P) :=
  ⟨fun r h' ⟨x, e, hp⟩ => by cases e; exact kk x h' hp, fun E h' ⟨x, e, hp⟩ => by cases e⟩
theorem aft_R {P : Option Nat → Hp → Prop} (kk : ∀ x h', P x h' → VV G Y d mc ms Φ pc' lo (aR x :: st) h' k n) : Aft G Y d mc ms Φ pc pc' lo st k n (pR P) :=
  ⟨fun r h' ⟨x, e, hp⟩ => by cases e; exact kk x h' hp, fun E h' ⟨x, e, hp⟩ => by cases e⟩
theorem aft_V {P : Hp → Prop} (kk : ∀ h', P h' → VV G Y d mc ms Φ pc' lo st h' k n) : Aft G Y d mc ms Φ pc pc' lo st k n (pV P) :=
  ⟨fun r h' ⟨e, hp⟩ => by cases e; exact kk h' hp, fun E h' ⟨e, hp⟩ => by cases e⟩
/-- a method without handlers passes a throw on -/
theorem vx_pass {E : String} {h : Hp} (hH : yH Y = []) (hΦ : Φ (.inr E) h) : VX G Y d mc ms Φ pc lo st E h k n := by
  intro p e s m args below meth c H locs cells slots ls q ce A hP hS hk hn hl h1 h2 h3
  obtain ⟨hx, hb, hr, hlk, hml, hown, hts, hK, hBs, hex, hnm⟩ := id A
  exact vx_out (by rw [hex, hH]; intro x hx; cases hx) hlk h1 h2 h3 (fun t ht hW => ⟨h, hΦ, by rw [ht]; exact hP, hS.F ht⟩) hS.2.2 (by omega) (by omega)
end AFT
section CALLS
variable {G : WG} {Y Y' : MY} {d d' mc ms mc' ms' : Nat} {Φ Φ' : Rs → Hp → Prop} {pc : Nat} {lo : List (Option AV)} {st st0 As : List AV} {h : Hp} {k n : Nat}
theorem run_to {a : Array Value} {pc' : Nat} (e9 : pc + 3 = pc') (kk : Aft G Y d mc ms Φ pc pc' lo st k n Φ') {p : Program} {e : Env} {s : State} {m : MethodId} {args : Array Value} {below : List Frame} {meth : Method} {c : Code} {H : Heap} {locs : List Loc} {cells slots : Nat} {ls : Array Slot} (A : Amb G Y p s m args meth c) (hS : va_S (gF G) s.heap H locs) (hk : cells + (k + mc') ≤ mc) (hn : slots + (n + ms') ≤ ms) (hl : lo_ok ls (yL Y) lo)
    (hr : vx_Run p (gl G) e (rmv d mc ms) s m args below meth c H locs cells slots mc' ms' (F0 m pc ls (st0.map av_v)) (st.map av_v) (QV G Φ' a) (XV G Φ') (gF G)) :
    W p (gl G) e (rmv d mc ms) s m args below meth c H locs cells slots (vx_MQ below (QV G Φ) (XV G Φ) args s mc ms (gF G)) (F0 m pc ls (st0.map av_v)) := by
  subst e9
  intro T hT X
  rcases hr T hT X with ⟨v, st₀, t, T', L, h0, X', hL, e1, e2, ⟨r, h', hv, hΦ, hP', hF⟩, hst⟩ | ⟨q, st₀, t, T', L, E, ce, h0, X', hL, e1, e2, ⟨h', hΦ, hP', hF⟩, hce, hcv, hcl, hst⟩
  · obtain ⟨k1, k2, k3⟩ := vx_keep h0 e1 hS (fun q _ h => h) (fun q h => h) hL hF
    obtain ⟨t2, a1, b1⟩ := kk.1 r h' hΦ p e s m args below meth c T'.heap (locs ++ L) (cells + mc') (slots + ms') ls A (by rw [e1]; exact hP') k3 (by omega) (by omega) hl T' rfl X'
    refine ⟨t2, hst t2 ?_, b1⟩
    cases hv
    cases r with
    | none => exact a1
    | some v => exact a1
  · obtain ⟨k1, k2, k3⟩ := vx_keep h0 e1 hS (fun q _ h => h) (fun q h => h) hL hF
    obtain ⟨t2, a1, b1⟩ := kk.2 E h' hΦ p e s m args below meth c T'.heap (locs ++ L) (cells + mc') (slots + ms') ls q ce A (by rw [e1]; exact hP') k3 (by omega) (by omega) hl (by rw [e1]; exact hce) hcv hcl T' rfl X'
    exact ⟨t2, hst.trans a1, b1⟩
theorem run_to5 {a : Array Value} {pc' : Nat} (e9 : pc + 5 = pc') (kk : Aft G Y d mc ms Φ pc pc' lo st k n Φ') {p : Program} {e : Env} {s : State} {m : MethodId} {args : Array Value} {below : List Frame} {meth : Method} {c : Code} {H : Heap} {locs : List Loc} {cells slots : Nat} {ls : Array Slot} (A : Amb G Y p s m args meth c) (hS : va_S (gF G) s.heap H locs) (hk : cells + (k + mc') ≤ mc) (hn : slots + (n + ms') ≤ ms) (hl : lo_ok ls (yL Y) lo)
    (hr : vx_Run5 p (gl G) e (rmv d mc ms) s m args below meth c H locs cells slots mc' ms' (F0 m pc ls (st0.map av_v)) (st.map av_v) (QV G Φ' a) (XV G Φ') (gF G)) :
    W p (gl G) e (rmv d mc ms) s m args below meth c H locs cells slots (vx_MQ below (QV G Φ) (XV G Φ) args s mc ms (gF G)) (F0 m pc ls (st0.map av_v)) := by
  subst e9
  intro T hT X
  rcases hr T hT X with ⟨v, st₀, t, T', L, h0, X', hL, e1, e2, ⟨r, h', hv, hΦ, hP', hF⟩, hst⟩ | ⟨q, st₀, t, T', L, E, ce, h0, X', hL, e1, e2, ⟨h', hΦ, hP', hF⟩, hce, hcv, hcl, hst⟩
  · obtain ⟨k1, k2, k3⟩ := vx_keep h0 e1 hS (fun q _ h => h) (fun q h => h) hL hF
    obtain ⟨t2, a1, b1⟩ := kk.1 r h' hΦ p e s m args below meth c T'.heap (locs ++ L) (cells + mc') (slots + ms') ls A (by rw [e1]; exact hP') k3 (by omega) (by omega) hl T' rfl X'
    refine ⟨t2, hst t2 ?_, b1⟩
    cases hv
    cases r with
    | none => exact a1
    | some v => exact a1
  · obtain ⟨k1, k2, k3⟩ := vx_keep h0 e1 hS (fun q _ h => h) (fun q h => h) hL hF
    obtain ⟨t2, a1, b1⟩ := kk.2 E h' hΦ p e s m args below meth c T'.heap (locs ++ L) (cells + mc') (slots + ms') ls q ce A (by rw [e1]; exact hP') k3 (by omega) (by omega) hl (by rw [e1]; exact hce) hcv hcl T' rfl X'
    exact ⟨t2, hst.trans a1, b1⟩
theorem pre_S {p : Program} {s : State} {m : MethodId} {args : Array Value} {meth : Method} {c : Code} {H : Heap} {locs : List Loc} (A : Amb G Y p s m args meth c) (hP : HP G h H) (hS : va_S (gF G) s.heap H locs) : PreS s H (PcV G As h) (As.map av_v) :=
  ⟨PcV_blind G As h, fun U hU hW => ⟨rfl, by rw [hU]; exact hP, A.2.2.2.2.2.2.2.1.moved hW (fun a h1 h2 => by rw [hU]; exact hS.2.1 a h1 h2), by rw [hU]; exact Nat.le_trans A.2.2.2.2.2.2.2.2.1 hS.1⟩⟩
theorem pre_V {b ci : Nat} {fs : List AV} {r : vw_C} {p : Program} {s : State} {m : MethodId} {args : Array Value} {meth : Method} {c : Code} {H : Heap} {locs : List Loc} (A : Amb G Y p s m args meth c) (hP : HP G h H) (hS : va_S (gF G) s.heap H locs) (hh : h b = some (ci, fs)) (hr : vcl[ci]? = some r) : PreV s H r.1 b (PcV G (aR (some b) :: As) h) (As.map av_v) := by
  obtain ⟨p1, p2⟩ := pre_S (As := aR (some b) :: As) A hP hS
  obtain ⟨cell, c1, c2, c3, c4, c5, -⟩ := cell_obj (hP b _ hh) hr
  exact ⟨p1, ⟨cell, c1, c3, by rw [c5]; exact (A.2.2.2.2.2.2.2.1.2.1 ci _ hr).2.1⟩, p2⟩
theorem rm_ok {L : Nat} (hdd : d' + 1 ≤ d) (hL : L ≤ 40) : (rmv d' mc' ms').frames + 1 ≤ (rmv d mc ms).frames ∧ 8 + (L + 11) + (rmv d' mc' ms').locals ≤ (rmv d mc ms).locals := by
  refine ⟨hdd, ?_⟩
  show 8 + (L + 11) + 64 * d' ≤ 64 * d
  omega
/-- entry i of own's pool is a call of the static Y, of n arguments -/
def SiS (own : String) (i : Nat) (Y' : MY) (na : Nat) : Prop := yH Y' = [] ∧ yL Y' ≤ 40 ∧ GoodIn lw_all (va_wsS own i (yN Y') (ws_ (yN Y') (yC Y') (yL Y') (yR Y'))) ∧ (yN Y').cls ≠ "java/lang/invoke/MethodHandle" ∧ (yN Y').cls ≠ "java/lang/invoke/VarHandle" ∧ (parseMethodDescriptor (yN Y').desc).map (fun d => d.parameters.length) = some na
theorem vv_callS (pc' : Nat) {i : Nat} (hd : decode (yC Y) pc = .ok (.invokestatic i, 3)) (e9 : pc + 3 = pc') (hs : SiS (yN Y).cls i Y' As.length) (hC : Cal G Y' d' mc' ms' As h Φ') (hst : st0 = As.reverse ++ st) (hdd : d' + 1 ≤ d) (hrest : (st.map av_c).sum ≤ 8) (kk : Aft G Y d mc ms Φ pc pc' lo st k n Φ') : VV G Y d mc ms Φ pc lo st0 h (k + mc') (n + ms') := by
  subst hst
  intro p e s m args below meth c H locs cells slots ls A hP hS hk hn hl
  obtain ⟨hx, hb, hr, hlk, hml, hown, hts, hK, hBs, hex, hnm⟩ := id A
  obtain ⟨hH, hL, hG, hy1, hy2, hy3⟩ := hs
  unfold Cal at hC
  rw [show wsY Y' = ws_ (yN Y') (yC Y') (yL Y') (yR Y') by unfold wsY; rw [hH]] at hC
  refine run_to e9 kk A hS hk hn hl (vx_runS (As := As.map av_v) (rest := st.map av_v) (n := As.length) ⟨hx, hb, hml, hown, hts⟩ hC (va_cwS As.length hts hG rfl rfl rfl ⟨hy1, hy2, hy3⟩ (rm_ok hdd hL)) (pre_S A hP hS) rfl (by simp) hl.1 (by simp) ?_ hd ⟨show cells + mc' ≤ mc by omega, show slots + ms' ≤ ms by omega⟩)
  show 2 * 0 + _ ≤ 8
  rw [av_cs]; omega
/-- .. of the instance method Y of the class C, which is the receiver's own -/
def SiV (own : String) (i : Nat) (Y' : MY) (na : Nat) : Prop := yH Y' = [] ∧ yL Y' ≤ 40 ∧ GoodIn lw_all (wsV own i (yN Y').cls (yN Y') (ws_ (yN Y') (yC Y') (yL Y') (yR Y'))) ∧ (yN Y').cls ≠ "java/lang/invoke/MethodHandle" ∧ (yN Y').cls ≠ "java/lang/invoke/VarHandle" ∧ (parseMethodDescriptor (yN Y').desc).map (fun d => d.parameters.length) = some na
theorem vv_callV (pc' : Nat) {i b ci : Nat} {fs : List AV} {r : vw_C} (hd : decode (yC Y) pc = .ok (.invokevirtual i, 3)) (e9 : pc + 3 = pc') (hs : SiV (yN Y).cls i Y' As.length) (hh : h b = some (ci, fs)) (hr : vcl[ci]? = some r) (hr1 : r.1 = (yN Y').cls) (hC : Cal G Y' d' mc' ms' (aR (some b) :: As) h Φ') (hst : st0 = As.reverse ++ aR (some b) :: st) (hdd : d' + 1 ≤ d) (hrest : (st.map av_c).sum ≤ 8) (kk : Aft G Y d mc ms Φ pc pc' lo st k n Φ') : VV G Y d mc ms Φ pc lo st0 h (k + mc') (n + ms') := by
  subst hst
  intro p e s m args below meth c H locs cells slots ls A hP hS hk hn hl
  obtain ⟨hx, hb, hret, hlk, hml, hown, hts, hK, hBs, hex, hnm⟩ := id A
  obtain ⟨hH, hL, hG, hy1, hy2, hy3⟩ := hs
  unfold Cal at hC
  rw [show wsY Y' = ws_ (yN Y') (yC Y') (yL Y') (yR Y') by unfold wsY; rw [hH]] at hC
  refine run_to e9 kk A hS hk hn hl (vx_runV (As := As.map av_v) (rest := st.map av_v) (n := As.length) ⟨hx, hb, hml, hown, hts⟩ hC (cwV As.length hts hG rfl rfl rfl ⟨rfl, hy1, hy2, hy3⟩ (rm_ok hdd hL)) (by rw [← hr1]; exact pre_V A hP hS hh hr) rfl (by simp) hl.1 (by simp [av_v, va_rf]) ?_ hd ⟨show cells + mc' ≤ mc by omega, show slots + ms' ≤ ms by omega⟩)
  show 2 * 0 + _ ≤ 8
  rw [av_cs]; omega
/-- .. of the constructor Y -/
def SiI (own : String) (i : Nat) (Y' : MY) (na : Nat) : Prop := yH Y' = [] ∧ yL Y' ≤ 40 ∧ yR Y' = none ∧ GoodIn lw_all (ws_ (yN Y') (yC Y') (yL Y') (yR Y')) ∧ Cond.initialized (yN Y').cls ∈ lw_all ∧ (Cond.methodLink own i (yN Y') ∈ lw_all ∨ ∃ host, Cond.methodLinkNest own i (yN Y') host ∈ lw_tbl) ∧ Cond.instanceMethod (yN Y') ∈ lw_all ∧ (yN Y').name = "<init>" ∧ (yN Y').cls ≠ "java/lang/invoke/MethodHandle" ∧ (yN Y').cls ≠ "java/lang/invoke/VarHandle" ∧ (parseMethodDescriptor (yN Y').desc).map (fun d => d.parameters.length) = some na
theorem vv_callI (pc' : Nat) {i b : Nat} (hd : decode (yC Y) pc = .ok (.invokespecial i, 3)) (e9 : pc + 3 = pc') (hs : SiI (yN Y).cls i Y' As.length) (hC : Cal G Y' d' mc' ms' (aR (some b) :: As) h Φ') (hst : st0 = As.reverse ++ aR (some b) :: st) (hdd : d' + 1 ≤ d) (hrest : (st.map av_c).sum ≤ 8) (kk : Aft G Y d mc ms Φ pc pc' lo st k n Φ') : VV G Y d mc ms Φ pc lo st0 h (k + mc') (n + ms') := by
  subst hst
  intro p e s m args below meth c H locs cells slots ls A hP hS hk hn hl
  obtain ⟨hx, hb, hret, hlk, hml, hown, hts, hK, hBs, hex, hnm⟩ := id A
  obtain ⟨hH, hL, hR, hG, hini, hlink, hinst, hy1, hy2, hy3, hy4⟩ := hs
  unfold Cal at hC
  rw [show wsY Y' = ws_ (yN Y') (yC Y') (yL Y') (yR Y') by unfold wsY; rw [hH]] at hC
  rw [hR] at hC hG
  have hW9 : 2 * (F0 m pc ls ((As.reverse ++ aR (some b) :: st).map av_v)).monitorRoom + ((st.map av_v).map fun v => v.category).sum ≤ 8 := by
    show 2 * 0 + _ ≤ 8
    rw [av_cs]; omega
  rcases hlink with hlink | ⟨host, hlink⟩
  · exact run_to e9 kk A hS hk hn hl (vx_runI (As := As.map av_v) (rest := st.map av_v) (n := As.length) ⟨hx, hb, hml, hown, hts⟩ hC (cwI As.length hts hG rfl rfl rfl (hts _ hini) (hts _ hlink) (hts _ hinst) hy1 ⟨hy2, hy3, hy4⟩ (rm_ok hdd hL)) (pre_S (As := aR (some b) :: As) A hP hS) rfl (by simp) hl.1 (by simp [av_v, va_rf]) hW9 hd ⟨show cells + mc' ≤ mc by omega, show slots + ms' ≤ ms by omega⟩)
  · exact run_to e9 kk A hS hk hn hl (vx_runIN (As := As.map av_v) (rest := st.map av_v) (n := As.length) ⟨hx, hb, hml, hown, hts⟩ hC ⟨va_cnB As.length hts hG rfl rfl rfl (hK.2.2.2.2.1 _ hlink rfl) (hts _ hini) ⟨hy2, hy3, hy4⟩ (rm_ok hdd hL), hy1, hts _ hinst⟩ (pre_S (As := aR (some b) :: As) A hP hS) rfl (by simp) hl.1 (by simp [av_v, va_rf]) hW9 hd ⟨show cells + mc' ≤ mc by omega, show slots + ms' ≤ ms by omega⟩)
end CALLS
