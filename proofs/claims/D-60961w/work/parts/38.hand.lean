/-! methods with handlers -/
section jHand
/-- who catches, by the machine's own rows -/
def jCat (s : State) (pl : Platform) (d : ClassId) (pc : Nat) (k : ClassId) : List ExceptionTableEntry → Nat → Prop
  | [], _ => False
  | x :: t, h => (covers x pc = false ∧ jCat s pl d pc k t h) ∨ (covers x pc = true ∧ x.catchType ≠ 0 ∧ ∃ c, s.vm.ClassLinks pl d x.catchType c ∧ ((s.vm.assignable k c = true ∧ h = x.handlerPc) ∨ (s.vm.assignable k c = false ∧ jCat s pl d pc k t h)))
theorem jCat_go {e : Env} {s : State} {f : JFrame} {a : Addr} {cell : Cell} {h : Nat} (hobj : cell.vm.isStatics = false) (hk0 : ∃ k, s.vm.classes[cell.cls]? = some k) : ∀ (tb : List ExceptionTableEntry) (S : State), s.WarmedH S.vm → S.heap[a]? = some cell → jCat s e.platform f.method.cls f.pc cell.cls tb h → ∃ vm', s.WarmedH vm' ∧ ∀ (Q : Handler → Pre) (E : CtlPost) (d : Bool) (acts : List Action), wp (findHandler.go f a tb) Q E e d acts S ↔ Q (.found h) d acts (S.setVm vm')
  | [], S, _, _, hc => False.elim hc
  | x :: t, S, hW, hcell, hc => by
    rcases hc with ⟨hx, hc⟩ | ⟨hx, h0, c, hl, hc⟩
    · obtain ⟨vm', w1, w2⟩ := jCat_go hobj hk0 t S hW hcell hc
      exact ⟨vm', w1, fun Q E d acts => by rw [W.findHandler_go_skip hx]; exact w2 Q E d acts⟩
    · have hl1 := hW.classLinks hl
      obtain ⟨ha, ht⟩ := (resolveClass_links e.toSetting hl1).op (op := VmOp.resolveClass f.method.cls x.catchType) rfl
      obtain ⟨dk, _, _, kt, hd, _, _, _, _, hkt, _, hopen⟩ := hl.here
      have hW1 := hW.noted hd hopen (State.rightAt_cls hl)
      obtain ⟨k0, hk0'⟩ := hk0
      obtain ⟨k1, hk1, -⟩ := hW1.alike.2.2 _ _ hk0'
      obtain ⟨k2, hk2, -⟩ := hW1.alike.2.2 _ _ hkt
      have hob := VmData.ne_statics_of hobj
      simp only [covers] at hx
      rcases hc with ⟨hf, rfl⟩ | ⟨hf, hc⟩
      · refine ⟨_, hW1, fun Q E d acts => ?_⟩
        have hf' : (S.vm.noted f.method.cls x.catchType (.cls c)).assignable cell.cls c = true := by rw [hW1.alike.assignable]; exact hf
        simp [findHandler.go, hx, h0, ha, ht, hcell, hob, hk1, hk2, hf', VmOp.dirties, VmOp.acts]
      · obtain ⟨vm', w1, w2⟩ := jCat_go hobj ⟨k0, hk0'⟩ t (S.setVm (S.vm.noted f.method.cls x.catchType (.cls c))) hW1 hcell hc
        refine ⟨vm', w1, fun Q E d acts => ?_⟩
        have hf' : (S.vm.noted f.method.cls x.catchType (.cls c)).assignable cell.cls c = false := by rw [hW1.alike.assignable]; exact hf
        refine Iff.trans ?_ (w2 Q E d acts)
        simp [findHandler.go, hx, h0, ha, ht, hcell, hob, hk1, hk2, hf', VmOp.dirties, VmOp.acts]
/-- into a handler; the tables may have got a link -/
theorem jcaught {tb : Tables} {e : Env} {s target : State} {g : JFrame} {c : Code} {below : List Frame} {a : Addr} {pc : Nat} {vm' : Vm} (hA : At s g.method c below)
    (hf : ∀ (Q : Handler → Pre) (E : CtlPost) (d : Bool) (acts : List Action), wp (findHandler g a) Q E e d acts ((s.setTop g).pushFrame (.throwing a)) ↔ Q (.found pc) d acts (((s.setTop g).pushFrame (.throwing a)).setVm vm'))
    (hrest : Steps tb e below ((s.setVm vm').setTop { g with pc := pc, stack := [.ref a] }) target) : Steps tb e below ((s.setTop g).pushFrame (.throwing a)) target := by
  obtain ⟨hgo, hw⟩ := hA.throwing a
  refine Steps.head hgo hw ?_
  have hi : (stepThrowing e ((s.setTop g).pushFrame (.throwing a)) a (.java g :: s.frames.tail)).Is ((((s.setTop g).pushFrame (.throwing a)).setVm vm').setFrames (.java { g with pc := pc, stack := [.ref a] } :: s.frames.tail)) [] := by
    simp only [stepThrowing, searchFrame, vmDo]
    generalize hr : Sem.go _ e false [] ((s.setTop g).pushFrame (.throwing a)) = res
    obtain ⟨as, rfl, ha⟩ := Sem.eq_ok_of hr (a := Handler.found pc) (s' := ((s.setTop g).pushFrame (.throwing a)).setVm vm') (acts' := []) (by simp [hf _ _ _ _])
    exact ⟨rfl, ha⟩
  rw [stepThread_throwing (frames_entered hA.top _), hi.1]
  obtain ⟨g0, hg0⟩ := Option.isSome_iff_exists.mp hA.top
  obtain ⟨r, hr⟩ := State.topJava?_eq_some.mp hg0
  have hr' : (s.setVm vm').frames = .java g0 :: r := hr
  rw [State.setTop_of_frames _ hr'] at hrest
  have e1 : ∀ (u : State) (F F1 : List Frame), ((u.setFrames F).setVm vm').setFrames F1 = (u.setVm vm').setFrames F1 := fun u F F1 => by
    show ((u.setVm vm').setFrames F).setFrames F1 = _
    rw [State.setFrames_setFrames]
  rw [hr, List.tail_cons, State.pushFrame, e1, State.setTop_of_frames _ hr, e1]
  exact hrest
/-- kinds of exceptions that a class takes, and does not take -/
def jKc (k : Int) (T : String) : Prop := ∃ (ci : Nat) (rr : vw_C), k = 2000 + (ci : Int) ∧ ci < 1000 ∧ jCl[ci]? = some rr ∧ Cond.castable rr.1 T ∈ lw_tbl ∧ ∃ n, Cond.instantiable rr.1 n ∈ lw_all
def jKn (k : Int) (T : String) : Prop := ∃ (ci : Nat) (rr : vw_C), k = 2000 + (ci : Int) ∧ ci < 1000 ∧ jCl[ci]? = some rr ∧ (rr.1, T) ∈ jNcs
/-- the handlers as the executor has them, and as the machine has them -/
def jHL (own : String) : jHs → List (Nat × Nat × Nat × Nat) → Prop
  | [], [] => True
  | (f, t, h, ks) :: r, (f', t', h', ct) :: r' => (f = f' ∧ t = t' ∧ h = h' ∧ ct ≠ 0) ∧ (∃ T, Cond.classLink own ct T ∈ lw_all ∧ (∀ k ∈ ks, jKc k T) ∧ ∀ e ∈ r, ∀ k ∈ e.2.2.2, k ∉ ks → jKn k T) ∧ jHL own r r'
  | _, _ => False
theorem jcat_mem {pc : Nat} {k : Int} {h : Nat} : ∀ {hs : jHs}, jcat_ hs pc k = some h → ∃ e ∈ hs, k ∈ e.2.2.2
  | [], g => by cases g
  | (f, t, h0, ks) :: r, g => by
    unfold jcat_ at g
    split at g
    · split at g
      · rename_i q; exact ⟨_, List.mem_cons_self, q⟩
      · obtain ⟨e, h1, h2⟩ := jcat_mem g; exact ⟨e, List.mem_cons_of_mem _ h1, h2⟩
    · obtain ⟨e, h1, h2⟩ := jcat_mem g; exact ⟨e, List.mem_cons_of_mem _ h1, h2⟩
theorem jcov_eq {f t h ct pc : Nat} : covers ⟨f, t, h, ct⟩ pc = (Nat.ble f pc && Nat.blt pc t) := by
  rw [Bool.eq_iff_iff]; simp only [covers, Nat.blt, Bool.and_eq_true, decide_eq_true_eq, Nat.ble_eq]; omega
theorem jHL_nc {own : String} {pc : Nat} : ∀ {hs : jHs} {hh : List (Nat × Nat × Nat × Nat)}, jHL own hs hh → jnc hs pc → ∀ x ∈ tableOf hh, covers x pc = false
  | [], [], _, _, x, hx => by cases hx
  | (f, t, h, ks) :: r, (f', t', h', ct) :: r', ⟨⟨e1, e2, e3, e4⟩, _, h3⟩, hn, x, hx => by
    subst e1 e2 e3
    rcases List.mem_cons.mp hx with rfl | hx
    · exact jcov_eq.trans (hn _ List.mem_cons_self)
    · exact jHL_nc h3 (fun e he => hn e (List.mem_cons_of_mem _ he)) x hx
  | [], _ :: _, h, _, _, _ => h.elim
  | _ :: _, [], h, _, _, _ => h.elim
theorem jHL_cat {G : jG} {s : State} {args : Array Value} {own : String} {pc h : Nat} {d : ClassId} {pl : Platform} {ci : Nat} (hpl : pl.magicAccessors = ({} : Platform).magicAccessors) (hown : s.vm.findClass own = some d) (hts : ∀ w ∈ lw_all, w.before args s = true) (hR : jTab G s) : ∀ {hs : jHs} {hh : List (Nat × Nat × Nat × Nat)}, jHL own hs hh → jcat_ hs pc (2000 + (ci : Int)) = some h → jCat s pl d pc ((gD G).1 ci) (tableOf hh) h
  | [], [], _, g => by cases g
  | (f, t, h0, ks) :: r, (f', t', h', ct) :: r', ⟨⟨e1, e2, e3, e4⟩, ⟨T, h1, h2, h3⟩, h4⟩, g => by
    subst e1 e2 e3
    unfold jcat_ at g
    split at g
    · rename_i q
      obtain ⟨c, hc, hl⟩ := Cond.classLink_spec hown (hts _ h1) pl hpl
      refine .inr ⟨jcov_eq.trans q, e4, c, hl, ?_⟩
      split at g
      · rename_i qk
        cases g
        obtain ⟨cj, rr, k1, k2, k3, k4, -⟩ := h2 _ qk
        obtain rfl : ci = cj := by omega
        have hK := (hR.1.1 ci _ k3).2.1
        obtain ⟨c', t', f1, f2, f3⟩ := Cond.castable_spec (va_Nw.use (A := args) rfl (hR.2.2.1 _ k4 rfl))
        cases hK.symm.trans f1
        cases hc.symm.trans f2
        exact .inl ⟨f3, rfl⟩
      · rename_i qk
        obtain ⟨e, m1, m2⟩ := jcat_mem g
        obtain ⟨cj, rr, k1, k2, k3, k4⟩ := h3 e m1 _ m2 qk
        obtain rfl : ci = cj := by omega
        have hK := (hR.1.1 ci _ k3).2.1
        obtain ⟨c', t', f1, f2, f3⟩ := hR.2.2.2.2.1 _ k4
        cases hK.symm.trans f1
        cases hc.symm.trans f2
        exact .inr ⟨f3, jHL_cat hpl hown hts hR h4 g⟩
    · rename_i q
      exact .inl ⟨jcov_eq.trans (Bool.eq_false_iff.mpr q), jHL_cat hpl hown hts hR h4 g⟩
  | [], _ :: _, h, _ => h.elim
  | _ :: _, [], h, _ => h.elim
theorem jHk_of {G : jG} {X : jX} {cc : ByteArray} {own nm : String} {nL d : Nat} {ret : Option FieldType} {hs : jHs} {hh : List (Nat × Nat × Nat × Nat)} (C : jC G X cc own nL ret d nm) (hE : X.2.2.2.2.2.2.2.2.2.exceptionTable.toList = tableOf hh) (hL : jHL own hs hh) : jHk G X nL hs := by
  obtain ⟨p, l, e, R, s, m, args, below, meth, c⟩ := X
  have hE : c.exceptionTable.toList = tableOf hh := hE
  obtain ⟨C1, C2, C3, C4, C5, C6, C7, C8, C9, C10, C11, C12⟩ := C
  intro pc ls σ σ' r a h0
  refine ⟨fun hn e1 e2 => ?_, fun h hcat hw => ?_⟩
  · subst e1 e2
    intro H locs la stv hR hLo hl ha T hT XX
    have hb1 := hR.2.2.2.2.1
    have hb2 := hR.2.2.2.2.2.1
    obtain ⟨k1, k2, k3, k4, k5⟩ := XX.leaveThrown a.toNat (g := F0 m pc la stv) rfl rfl rfl (by
      intro x hx
      exact jHL_nc hL hn x (by rw [← hE]; exact hx))
    refine ⟨_, k1, .threw a.toNat, k2, k3, ⟨⟨rfl, h0⟩, ?_⟩, k4, locs, k5.mono (by omega) (by omega), hLo.1⟩
    have : (T.setFrames (.throwing a.toNat :: below)).heap = H := hT
    rw [this]
    exact hR.moved k4
  · intro H locs la stv hR hLo hl ha T hT XX
    obtain ⟨e0, m1, m2⟩ := jcat_mem hcat
    have hkk : ∃ ci : Nat, jK σ a = 2000 + (ci : Int) ∧ ci < 1000 ∧ ∃ rr : vw_C, jCl[ci]? = some rr ∧ ∃ n, Cond.instantiable rr.1 n ∈ lw_all := by
      have : ∀ {hs : jHs} {hh : List (Nat × Nat × Nat × Nat)}, jHL own hs hh → ∀ e ∈ hs, ∀ k ∈ e.2.2.2, ∃ ci : Nat, k = 2000 + (ci : Int) ∧ ci < 1000 ∧ ∃ rr : vw_C, jCl[ci]? = some rr ∧ ∃ n, Cond.instantiable rr.1 n ∈ lw_all := by
        intro hs
        induction hs with
        | nil => intro hh _ e he; cases he
        | cons x r ih =>
          intro hh hL e he k hk
          obtain ⟨f, t, h, ks⟩ := x
          cases hh with
          | nil => exact hL.elim
          | cons y r' =>
            obtain ⟨f', t', h', ct⟩ := y
            obtain ⟨-, ⟨T, -, h2, -⟩, h4⟩ := hL
            rcases List.mem_cons.mp he with rfl | he
            · obtain ⟨ci, rr, k1, k2, k3, -, k4⟩ := h2 k hk
              exact ⟨ci, k1, k2, rr, k3, k4⟩
            · exact ih h4 e he k hk
      exact this hL e0 m1 _ m2
    obtain ⟨ci, hk1, hk2, rr, hk3, nn, hk4⟩ := hkk
    obtain ⟨aN, rfl⟩ : ∃ aN : Nat, a = aN := ⟨a.toNat, by omega⟩
    have hcl := hR.2.2.1 aN
    rw [hk1] at hcl
    obtain ⟨cell, q1, q2, q3, q4⟩ := (hcl.n (by omega)).2.2 (by omega) (by omega)
    rw [show (2000 + (ci : Int) - 2000).toNat = ci by omega] at q2
    have hTab := hR.2.2.2.2.2.2
    have hpl : e.platform.magicAccessors = ({} : Platform).magicAccessors := by rw [XX.admits.platform]
    have hK := hTab.1.1 ci _ hk3
    rw [hk1] at hcat
    have hC := jHL_cat (args := args) hpl C4 C5 hTab hL hcat
    obtain ⟨kk, hkk, -⟩ : ∃ k, s.vm.classes[(gD G).1 ci]? = some k ∧ True := by
      obtain ⟨cC, kC, h1, h2, -⟩ := Cond.instantiable_spec (C5 _ hk4)
      cases hK.2.1.symm.trans h1
      exact ⟨kC, h2, trivial⟩
    obtain ⟨vm', w1, w2⟩ := jCat_go (e := e) (f := F0 m pc la stv) (a := aN) (cell := cell) q3 ⟨kk, by rw [q2]; exact hkk⟩ (tableOf hh) ((T.setTop (F0 m pc la stv)).pushFrame (.throwing aN)) (by rw [Stand.throwing_vm]; exact XX.warmed) (by rw [Stand.throwing_heap, hT]; exact q1) (by rw [q2]; exact hC)
    have XX' := XX.noted w1
    obtain ⟨t, k1, k2⟩ := hw H locs la hR hLo (jall_cons.mpr ⟨jok_r.mpr (by omega), fun _ h => (nomatch h)⟩) hl ha (T.setVm vm') hT XX'
    refine ⟨t, ?_, k2⟩
    rw [show ((aN : Int)).toNat = aN by omega]
    refine jcaught (pc := h) (vm' := vm') XX.here (fun Q E d acts => ?_) ?_
    · rw [W.findHandler_eq (meth := meth) (code := c) (by rw [Stand.throwing_vm]; exact XX.method') XX.code, hE]
      exact w2 Q E d acts
    · rw [List.map_cons, jv_r (by omega)] at k1
      exact k1
end jHand
