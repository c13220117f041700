/-! the four lambdas -/
abbrev lm_q : Type := MethodName × Nat × Nat × Lambda.Shape
def lm_sh (im : String) (cap ps : List FieldType) : Lambda.Shape :=
  { iface := "QuorumLog$Aim", name := "isMet", sam := { parameters := [.object "QuorumLog$Group"], returnType := some .boolean }, captured := cap, kind := 6, implClass := "QuorumLog", implName := im, implDesc := { parameters := ps, returnType := some .boolean }, implItf := false, inst := { parameters := [.object "QuorumLog$Group"], returnType := some .boolean } }
def lm_L : List lm_q := [(⟨"QuorumLog", "roundsToLeader", "()I"⟩, 7, 384, lm_sh "lambda$roundsToLeader$0" [] [.object "QuorumLog$Group"]), (⟨"QuorumLog", "roundsToAnswer", "(I)I"⟩, 21, 392, lm_sh "lambda$roundsToAnswer$1" [.int] [.int, .object "QuorumLog$Group"]),
  (⟨"QuorumLog", "roundsToAgree", "()I"⟩, 7, 395, lm_sh "lambda$roundsToAgree$2" [] [.object "QuorumLog$Group"]), (⟨"QuorumLog", "roundsWithout", "(I)I"⟩, 29, 396, lm_sh "lambda$roundsWithout$3" [] [.object "QuorumLog$Group"])]
abbrev y_aim : MethodName := ⟨"QuorumLog$Aim", "isMet", "(LQuorumLog$Group;)Z"⟩
def lm_ok (D : va_G) (E : Env0) (s : State) (j : Nat) (q : lm_q) : Prop := ∃ (m : MethodId) (k : Class) (cf : ClassFile) (i0 p0 : Nat) (l : Linked), s.methodNamed? q.1 = some m ∧ s.vm.classes[m.cls]? = some k ∧ k.cf = some cf ∧ Lambda.shapeOf? cf q.2.2.1 = some q.2.2.2 ∧
  (k.callSites.find? fun y => y.1 == m.idx && y.2.1 == q.2.1) = some (i0, p0, l) ∧ Lambda.isMade { classPath := fun _ => none } s.vm m.cls q.2.2.2 (D.1 (60 + j)) = true ∧ s.lambdaCallable q.2.2.2 (D.1 (60 + j)) = true ∧
  ((q.2.2.2.captured = [] ∧ ∃ a, l = .constant a ∧ E.2 (10 + j) = .ref a) ∨ (q.2.2.2.captured ≠ [] ∧ l = .makes (D.1 (60 + j))))
def kv_lam (D : va_G) (E : Env0) (s : State) : Prop := (∀ (j : Nat) (q : lm_q), lm_L[j]? = some q → lm_ok D E s j q) ∧ (Cond.interfaceMethod y_aim.cls y_aim.cls y_aim.name y_aim.desc).before #[] s = true ∧ (Cond.declares y_aim).before #[] s = true
theorem lm_tabs {s U : State} (hW : s.WarmedH U.vm) {q : Cond} (hq : q.tabsOnly = true) (h : q.before #[] s = true) : q.before #[] U = true := by
  have := Cond.tabsOnly_warm (args' := #[]) (T := U) hW q hq h
  rwa [show U.setVm U.vm = U from by cases U; rfl] at this
theorem lm_moved {D : va_G} {E : Env0} {s U : State} (hW : s.WarmedH U.vm) {j : Nat} {q : lm_q} (h : lm_ok D E s j q) : lm_ok D E U j q := by
  obtain ⟨m, k, cf, i0, p0, l, h1, h2, h3, h4, h5, h6, h7, h8⟩ := h
  have hA := hW.alike
  obtain ⟨k', h2', e⟩ := hA.2.2 _ _ h2
  have hm' : U.methodNamed? q.1 = some m := by
    have := State.methodNamed?_setVm (s := s) hA q.1
    rw [h1] at this
    exact this
  have h7' : U.lambdaCallable q.2.2.2 (D.1 (60 + j)) = true := by
    simp only [State.lambdaCallable, hA.findClass, hA.assignable, hA.superclasses, hA.declaredIn] at h7 ⊢
    exact h7
  exact ⟨m, k', cf, i0, p0, l, hm', h2', by rw [e]; exact h3, h4, by rw [e]; exact h5, Lambda.isMade_warmer hW h6, h7', h8⟩
theorem lam_moved {D : va_G} {E : Env0} {s U : State} (hW : s.WarmedH U.vm) (h : kv_lam D E s) : kv_lam D E U :=
  ⟨fun j q hq => lm_moved hW (h.1 j q hq), lm_tabs hW (by decide) h.2.1, lm_tabs hW (by decide) h.2.2⟩
