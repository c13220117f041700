/-! lambdas: their making, their calls -/
section LAM

def lm_D (σ : Lambda.Shape) : ClassFile := (σ.file "QuorumLog").getD { minorVersion := 0, majorVersion := 0, constantPool := #[], accessFlags := 0, thisClass := 0, superClass := 0, interfaces := #[], fields := #[], methods := #[], attributes := #[] }
def lm_fw (σ : Lambda.Shape) : Method := ((layoutMethods (lm_D σ)).bind (·[1]?)).getD default
def lm_lay (σ : Lambda.Shape) : Array Field × Array FieldType × Array FieldType := (layoutFields (lm_D σ) 0).getD (#[], #[], #[])
/-- what is decided of a shape -/
def lm_chk (σ : Lambda.Shape) (fwd : ByteArray) (mi ci cn nt : Nat) : Prop :=
  (σ.file "QuorumLog").isSome = true ∧ ((layoutMethods (lm_D σ)).bind (·[1]?)).isSome = true ∧ ((lm_fw σ).code.map fun c => (c.code.data, c.maxLocals)) = some (fwd.data, 2) ∧
  ((lm_fw σ).accessFlags, (lm_fw σ).name, (lm_fw σ).sig.returnType) = (0x0001, "isMet", (some .boolean : Option FieldType)) ∧
  ((lm_D σ).constantPool[mi]? = some (.methodref ci nt) ∧ (lm_D σ).constantPool.className? ci = some "QuorumLog" ∧ (lm_D σ).constantPool.nameAndType? nt = some (σ.implName, σ.implDesc.toString)) ∧
  ((lm_D σ).constantPool[ci]? = some (.class_ cn) ∧ (lm_D σ).constantPool.string? cn = some "QuorumLog" ∧ ci ≠ (lm_D σ).thisClass) ∧ (layoutFields (lm_D σ) 0).isSome = true ∧ σ.implClass = "QuorumLog"
theorem lm_made {σ : Lambda.Shape} {fwd : ByteArray} {mi ci cn nt : Nat} (hch : lm_chk σ fwd mi ci cn nt) {e : Setting} {vm : Vm} {d c : ClassId} {dk : Class} (hd : vm.classes[d]? = some dk) (hname : dk.name = "QuorumLog") (h : Lambda.isMade e vm d σ c = true)
    (hO : ∀ o ok, vm.findClass "java/lang/Object" = some o → vm.classes[o]? = some ok → ok.instanceTypes.size = 0) :
    ∃ (k tk : Class) (file : ClassFile) (methk : Method) (ck : Code) (toy : ClassId) (t : MethodId),
      vm.classes[c]? = some k ∧ k.name = "QuorumLog$$Lambda" ∧ k.cf = some file ∧ file.constantPool = (lm_D σ).constantPool ∧
      vm.method? ⟨c, 1⟩ = some methk ∧ methk.code = some ck ∧ ck.code = fwd ∧ ck.maxLocals = 2 ∧ methk.locks = false ∧ methk.accessFlags = 0x0001 ∧ methk.sig.returnType = some .boolean ∧
      vm.findClass "QuorumLog" = some toy ∧ vm.classes[toy]? = some tk ∧ ((methodIn toy σ.implName σ.implDesc.toString tk.isInterface none).ask e vm).1 = .ok t ∧
      vm.methodReady c mi t ∧ vm.classReady c ci toy ∧ k.kind = .ordinary ∧ k.instanceTypes = (lm_lay σ).2.1 ∧ (∀ (i x : Nat) (g0 : Field), (lm_lay σ).1[i]? = some g0 → ∀ (a b : Nat) (nm ds : String), (lm_D σ).constantPool[x]? = some (.fieldref a b) → (lm_D σ).constantPool.nameAndType? b = some (nm, ds) → (lm_lay σ).1.findIdx? (·.name == nm) = some i → vm.fieldReady c x c g0) := by
  obtain ⟨k1, k2, fc, ff, eM, eC, k7, k8⟩ := hch
  have file_is : σ.file "QuorumLog" = some (lm_D σ) := by
    obtain ⟨x, hx⟩ := Option.isSome_iff_exists.mp k1
    simp [lm_D, hx]
  have second_is : ∀ ms, layoutMethods (lm_D σ) = some ms → ms[1]? = some (lm_fw σ) := by
    intro ms hms
    obtain ⟨x, hx⟩ := Option.isSome_iff_exists.mp k2
    have hf : lm_fw σ = x := by simp [lm_fw, hx]
    rw [hms] at hx
    rw [hf]
    exact hx
  have laid_is : layoutFields (lm_D σ) 0 = some (lm_lay σ) := by
    obtain ⟨x, hx⟩ := Option.isSome_iff_exists.mp k7
    simp [lm_lay, hx]
  obtain ⟨dk', k, ok, tk, file, cf, object, iface, toy, lay, methods, target, found, hd', hk, hfile, hcf, hobj, -, hok, hlay, hms, ht, htk, hg, -, hrec, -, -, -, hitf, hpool, hmeth, hfields, hty, hres, -⟩ := Lambda.isMade_spec h
  cases hd.symm.trans hd'
  rw [hname, file_is] at hcf
  cases hcf
  rw [k8] at ht
  have hok0 : ok.instanceTypes = #[] := Array.eq_empty_of_size_eq_zero (hO object ok hobj hok)
  rw [hO object ok hobj hok, laid_is] at hlay
  cases hlay
  obtain ⟨b, hb, hsame⟩ := hmeth 1 (lm_fw σ) (second_is methods hms)
  simp only [Lambda.sameMethod, Bool.and_eq_true, decide_eq_true_eq] at hsame
  obtain ⟨⟨hn, -, hsig, hfl⟩, hcode⟩ := hsame
  simp only [Prod.mk.injEq] at ff
  cases hfc : (lm_fw σ).code with
  | none => rw [hfc] at fc; cases fc
  | some x =>
    cases hbc : b.code with
    | none => simp [hfc, hbc] at hcode
    | some y =>
      simp only [hfc, hbc, Bool.and_eq_true, decide_eq_true_eq] at hcode
      simp only [hfc, Option.map_some, Option.some.injEq, Prod.mk.injEq] at fc
      refine ⟨k, tk, file, b, y, toy, target, hk, by rw [hrec.1, hname]; rfl, hfile, hpool.2.1, by simp [Vm.method?, hk, hb], hbc, ?_, by rw [← hcode.1.1.1.1.2.1]; exact fc.2, ?_, by rw [← hfl]; exact ff.1, by rw [← hsig]; exact ff.2.2, ht, htk, hg,
        ⟨k, hk, hres mi _ (Lambda.resolvedOf_method eM.1 eM.2.1 ht htk eM.2.2 hg)⟩, ⟨k, hk, hres ci _ (Lambda.resolvedOf_class eC.1 eC.2.2 eC.2.1 ht)⟩, hrec.2.1, by rw [hty.1, hok0]; simp, fun i x g0 h1 a' b' nm ds h2 h3 h4 => ⟨k, i, k, hk, hres x _ (Lambda.resolvedOf_field h2 h3 h4), hk, hfields i _ h1⟩⟩
      · rw [← hcode.1.1.1.1.2.2]
        exact ByteArray.ext fc.1
      · simp [Method.locks, Method.isSynchronized, ← hfl, ff.1, hasFlag, Acc.synchronized]
def lm_b0 : ByteArray := ⟨#[43, 184, 0, 17, 172]⟩
def lm_b1 : ByteArray := ⟨#[42, 180, 0, 15, 43, 184, 0, 23, 172]⟩
theorem lm_c0 : lm_chk (lm_sh "lambda$roundsToLeader$0" [] [.object "QuorumLog$Group"]) lm_b0 17 14 13 16 := by unfold lm_chk; decide +kernel
theorem lm_c1 : lm_chk (lm_sh "lambda$roundsToAnswer$1" [.int] [.int, .object "QuorumLog$Group"]) lm_b1 23 19 18 22 := by unfold lm_chk; decide +kernel
theorem lm_c2 : lm_chk (lm_sh "lambda$roundsToAgree$2" [] [.object "QuorumLog$Group"]) lm_b0 17 14 13 16 := by unfold lm_chk; decide +kernel
theorem lm_c3 : lm_chk (lm_sh "lambda$roundsWithout$3" [] [.object "QuorumLog$Group"]) lm_b0 17 14 13 16 := by unfold lm_chk; decide +kernel
theorem lm_f1 : (lm_D (lm_sh "lambda$roundsToAnswer$1" [.int] [.int, .object "QuorumLog$Group"])).constantPool[15]? = some (.fieldref 2 14) ∧ (lm_D (lm_sh "lambda$roundsToAnswer$1" [.int] [.int, .object "QuorumLog$Group"])).constantPool.nameAndType? 14 = some ("arg$1", "I") ∧
    (lm_lay (lm_sh "lambda$roundsToAnswer$1" [.int] [.int, .object "QuorumLog$Group"])).1.findIdx? (·.name == "arg$1") = some 0 ∧ ((lm_lay (lm_sh "lambda$roundsToAnswer$1" [.int] [.int, .object "QuorumLog$Group"])).1[0]?).map (fun f => (f.isStatic, f.slot)) = some (false, 0) := by decide +kernel
theorem lm_t1 : (lm_lay (lm_sh "lambda$roundsToAnswer$1" [.int] [.int, .object "QuorumLog$Group"])).2.1 = #[.int] := by decide +kernel
theorem lm_warmO {s : State} {vm : Vm} (hW : s.WarmedH vm) (h4 : ∀ o ok, s.vm.findClass "java/lang/Object" = some o → s.vm.classes[o]? = some ok → ok.instanceTypes.size = 0) : ∀ o ok, vm.findClass "java/lang/Object" = some o → vm.classes[o]? = some ok → ok.instanceTypes.size = 0 := by
  intro o ok ho hok
  rw [hW.alike.findClass] at ho
  obtain ⟨ok0, hok0⟩ : ∃ ok0, s.vm.classes[o]? = some ok0 := by
    cases hq : s.vm.classes[o]? with
    | none => rw [hW.alike.none hq] at hok; cases hok
    | some x => exact ⟨x, rfl⟩
  obtain ⟨ok', hok', e3⟩ := hW.alike.2.2 _ _ hok0
  cases hok.symm.trans hok'
  rw [e3]
  exact h4 o ok0 ho hok0
theorem lm_obj {args : Array Value} {s : State} (h : (Cond.instantiable "java/lang/Object" 0).before args s = true) : ∀ o ok, s.vm.findClass "java/lang/Object" = some o → s.vm.classes[o]? = some ok → ok.instanceTypes.size = 0 := by
  intro o ok ho hok
  obtain ⟨c, k, h1, h2, -, -, -, h3⟩ := Cond.instantiable_spec h
  cases ho.symm.trans h1
  cases hok.symm.trans h2
  exact h3
theorem lm_d00 : decode lm_b0 0 = .ok (.aload_n 1, 1) := by decide +kernel
theorem lm_d01 : decode lm_b0 1 = .ok (.invokestatic 17, 3) := by decide +kernel
theorem lm_d04 : decode lm_b0 4 = .ok (.ireturn, 1) := by decide +kernel
theorem lm_d10 : decode lm_b1 0 = .ok (.aload_n 0, 1) := by decide +kernel
theorem lm_d11 : decode lm_b1 1 = .ok (.getfield 15, 3) := by decide +kernel
theorem lm_d14 : decode lm_b1 4 = .ok (.aload_n 1, 1) := by decide +kernel
theorem lm_d15 : decode lm_b1 5 = .ok (.invokestatic 23, 3) := by decide +kernel
theorem lm_d18 : decode lm_b1 8 = .ok (.ireturn, 1) := by decide +kernel
/-- the two forms of a made class -/
def lm_form (j : Nat) (lq : lm_q) (q : MI) (ncap pcI mi : Nat) (fwd : ByteArray) : Prop := lm_L[j]? = some lq ∧ lq.1.cls = "QuorumLog" ∧ q.1 = ⟨"QuorumLog", lq.2.2.2.implName, lq.2.2.2.implDesc.toString⟩ ∧ (∃ ci cn nt, lm_chk lq.2.2.2 fwd mi ci cn nt) ∧ lq.2.2.2.iface = "QuorumLog$Aim" ∧ lq.2.2.2.name = "isMet" ∧ lq.2.2.2.sam.toString = "(LQuorumLog$Group;)Z" ∧
  (ncap = 0 ∧ pcI = 1 ∧ mi = 17 ∧ fwd = lm_b0 ∨ ncap = 1 ∧ pcI = 5 ∧ mi = 23 ∧ fwd = lm_b1 ∧ lq.2.2.2 = lm_sh "lambda$roundsToAnswer$1" [.int] [.int, .object "QuorumLog$Group"])
section
variable {p : Program} {l : Launch} {e : Env} {R : Room} {s : State} {m : MethodId} {args : Array Value} {below : List Frame} {meth : Method} {c : Code} {H : Heap} {locs : List Loc} {cells slots : Nat} {Q : State → Prop}
variable {cc : ByteArray} {pc nL : Nat} {ls : Array Slot} {rest As : List Value} {D : va_G} {E : Env0} {h : Hp} {r : Rs × Hp} {q : MI} {own : String} {ix n d mc0 ms0 : Nat}
theorem lm_weaken {tb : Tables} {mid : List Frame} {a b : State} (h : Steps tb e (mid ++ below) a b) : Steps tb e below a b := by
  obtain ⟨n, hn, w⟩ := h
  exact ⟨n, hn, fun k hk => (w k hk).weaken⟩
set_option maxHeartbeats 1000000 in
theorem sx_lam (hx : p.tables.exec = Jvm.exec) (hb : c.code = cc) (hml : c.maxLocals = nL) (hown : s.vm.findClass own = some m.cls) (hts : ∀ w ∈ lw_all, w.before args s = true) (hK : kv_ok D E s s.heap) (hr : rl_H D s E.1 h H) (hS : va_S (rl_A E.1) s.heap H locs) (hB : E.1 ≤ s.heap.size) (hsz : ls.size = nL)
    {a gr count j ncap pcI mi : Nat} {lq : lm_q} {fwd : ByteArray} (hfm : lm_form j lq q ncap pcI mi fwd) (hj : j < 10) (hka : hp_kd h a = 60 + j) (hln : hp_ln h a = ncap) (hok : mi_ok q) (hpl : mi_pl q) (hst : Cond.static q.1 ∈ lw_all) (hmn : mi_n q (ncap + 1)) (hlk : Cond.methodLink own ix y_aim ∈ lw_all) (hob : Cond.instantiable "java/lang/Object" 0 ∈ lw_all)
    (hM : cx_M l D E q d ((List.range ncap).map (hp_at h a) ++ [Value.ref gr]) h r) {x0 : Int32} (hr1 : r.1 = .ok (some (.int x0))) (h01 : x0 = 0 ∨ x0 = 1) (hW : (rest.map fun v => v.category).sum ≤ 8) (hd : decode cc pc = .ok (.invokeinterface ix count, 5))
    (hf : cells + (hp_top r.2 - hp_top h) ≤ mc0 ∧ slots + (hp_use r.2 - hp_use h) ≤ ms0) (az : Array Value) :
    vx_Run5 p l e (cx_room (d + 1) mc0 ms0) s m args below meth c H locs cells slots (hp_top r.2 - hp_top h) (hp_use r.2 - hp_use h) (F0 m pc ls (.ref gr :: .ref a :: rest)) rest (cx_Q D E r az) (cx_X D E r) (rl_A E.1) := by
  obtain ⟨hlj, hlc, hq1, ⟨ci, cn, nt, hch⟩, hif, hnm, hsam, hcase⟩ := hfm
  intro T hT X
  obtain ⟨cell, c1, c2, c3, c4, c5, c6⟩ := hr.2 a (by omega)
  have hcls : cell.cls = D.1 (60 + j) := by
    have := c5.2.2.1 (by omega) (by omega)
    rw [hka] at this
    exact this
  obtain ⟨hL, hface, hdecl⟩ := hK.2.2.2.2.2.2.2.2.2.2
  obtain ⟨mS, kS, cfS, i0, p0, lk, hmS, hkS, hcfS, hsh, hfind, hmade, hcan, -⟩ := hL j lq hlj
  rw [← hcls] at hmade hcan
  obtain ⟨kS', hkS', hnameS⟩ := className_of_methodNamed hmS
  cases hkS.symm.trans hkS'
  rw [hlc] at hnameS
  have hO := lm_obj (hts _ hob)
  obtain ⟨kK, tk, file, methk, ckK, toy, t, hkK, hkn, hfile, hpool, hmk, hckK, hbytes, hmlK, hlkK, hfl, hretk, htoy, htk, hlook, hready, hclsR, hkind, hity, hfrd⟩ := lm_made hch hkS hnameS hmade hO
  obtain ⟨r0, rM, hn, hrm, hstR, hsigR⟩ := Cond.declares_spec hdecl
  obtain ⟨cL, kL, r1, hcL, hkL, hiL, hfoundL, hn1⟩ := Cond.interfaceMethod_spec hface
  cases hn.symm.trans hn1
  have hr0cls : r0.cls = cL := Option.some.inj ((findClass_of_methodNamed hn).symm.trans hcL)
  obtain ⟨hnameR, hdescR⟩ := name_of_methodNamed hn hrm
  obtain ⟨-, -, -, -, -, -, -, iface', -, -, -, -, found, -, -, -, -, -, hi', -, -, -, -, -, -, hfound', -, -, -, -, -, -, -, -, -, -, hsel⟩ := Lambda.isMade_spec hmade
  rw [hif] at hi'
  cases hcL.symm.trans hi'
  have hfr : found = r0 := by
    have h1 : s.methodFound? "QuorumLog$Aim" "isMet" "(LQuorumLog$Group;)Z" = some r0 := hfoundL
    have hcL' : s.vm.findClass "QuorumLog$Aim" = some cL := hcL
    simp only [State.methodFound?, hcL', hkL, hiL, Option.bind_eq_bind, Option.bind_some] at h1
    have h2 : ((methodIn cL "isMet" "(LQuorumLog$Group;)Z" true none).ask { classPath := fun _ => none } s.vm).1 = .ok found := by rw [← hsam, ← hnm]; exact hfound'
    rw [h2] at h1
    exact Option.some.inj h1
  subst hfr
  obtain ⟨i2, hi2, hasg, hway⟩ := State.lambdaCallable_spec hcan
  rw [hif] at hi2
  cases hcL.symm.trans hi2
  rw [hnm, hsam] at hway
  have hcellT : T.heap[a]? = some cell := by rw [hT]; exact c1
  have hparR : rM.sig.parameters.length = 1 := by
    have h2 : (parseMethodDescriptor "(LQuorumLog$Group;)Z").map (fun d => d.parameters.length) = some 1 := by decide +kernel
    have h1 : parseMethodDescriptor "(LQuorumLog$Group;)Z" = some rM.sig := hsigR
    rw [h1] at h2
    exact Option.some.inj h2
  obtain ⟨vm₁, X₁, hstep₁⟩ := X.invokeinterface hx hown (hts _ hlk) hn hrm hstR (by rw [hr0cls]; exact hkL) hiL (by decide) (a := a) (cell := cell) (kcell := kK) hcellT (fun z h => by rw [h] at c2; cases c2) hkK (by rw [hr0cls]; exact hasg)
    (m' := ⟨cell.cls, 1⟩) (meth' := methk) (by rw [Launch.admits_selectMethod X.admits]; exact hsel) hmk (by rw [hnameR, hdescR]; exact hway) (by rw [hfl]; decide) (by simp [Method.isAbstract, hfl, hasFlag, Acc.abstract])
    (g := F0 m pc ls (.ref gr :: .ref a :: rest)) rfl (argsL := [.ref gr]) (rest := rest) (by rw [hparR]; rfl) rfl (by rw [hb]; exact hd)
  have hW₁ : s.WarmedH vm₁ := X₁.warmed
  obtain ⟨kS₁, hkS₁, heS₁⟩ := hW₁.alike.2.2 _ _ hkS
  have hnameS₁ : kS₁.name = "QuorumLog" := by rw [heS₁]; exact hnameS
  obtain ⟨kK₁, tk₁, file₁, methk₁, ckK₁, toy₁, t₁, hkK₁, hkn₁, hfile₁, hpool₁, hmk₁, hckK₁, hbytes₁, hml₁, hlk₁, hfl₁, hretk₁, htoy₁, htk₁, hlook₁, hready₁, hclsR₁, hkind₁, hity₁, hfrd₁⟩ := lm_made hch hkS₁ hnameS₁ (Lambda.isMade_warmer hW₁ hmade) (lm_warmO hW₁ hO)
  have hcd := hts _ (mi_plc hok hpl)
  have hqc : q.1.cls = "QuorumLog" := by rw [hq1]
  have hqn : q.1.name = lq.2.2.2.implName := by rw [hq1]
  have hqd : q.1.desc = lq.2.2.2.implDesc.toString := by rw [hq1]
  obtain ⟨mT, hmT⟩ := Cond.code_named hcd
  obtain ⟨methT, cT, hmethT, hcT, hbytesT, hlocT, hretT, hlocksT, -, hsigT⟩ := Cond.code_spec hmT hcd
  have hstaticT : methT.isStatic = true := Cond.static_spec hmT hmethT (hts _ hst)
  obtain ⟨kT, hkT, hnameT⟩ := className_of_methodNamed hmT
  have hfT : s.vm.findClass q.1.cls = some mT.cls := findClass_of_methodNamed hmT
  have hinitK : kT.init = .initialized := Cond.initialized_spec hfT hkT (hts _ hok.2.1)
  rw [hqc] at hfT hnameT
  have hfT₁ : vm₁.findClass "QuorumLog" = some mT.cls := by rw [hW₁.alike.findClass]; exact hfT
  cases htoy₁.symm.trans hfT₁
  have ht₁ : t₁ = mT := by
    have h1 : (s.setVm vm₁).methodFound? q.1.cls q.1.name q.1.desc = some mT := by rw [State.methodFound?_setVm hW₁.alike]; exact State.methodFound?_of_named hmT hok.2.2.1
    rw [hqc, hqn, hqd] at h1
    simp only [State.methodFound?, State.vm_setVm, hfT₁, htk₁, Option.bind_eq_bind, Option.bind_some] at h1
    rw [hlook₁] at h1
    exact Option.some.inj h1
  subst ht₁
  have hmethT₁ : vm₁.method? t₁ = some methT := by rw [hW₁.alike.method?]; exact hmethT
  obtain ⟨kT₁, hkT₁, heT₁⟩ := hW₁.alike.2.2 _ _ hkT
  cases htk₁.symm.trans hkT₁
  have hnmT : tk₁.name ≠ "java/lang/invoke/MethodHandle" ∧ tk₁.name ≠ "java/lang/invoke/VarHandle" := by
    have : tk₁.name = "QuorumLog" := by rw [heT₁]; exact hnameT
    rw [this]; decide
  have hsp : ∀ y : Method, signaturePolymorphic tk₁ y = false := fun y => by simp [signaturePolymorphic, hnmT.1, hnmT.2]
  obtain ⟨bM, hmem⟩ := memberRef_ask' (e := e) (vm := vm₁) (d := cell.cls) (index := mi) hkK₁ hfile₁ (Or.inl (by rw [hpool₁]; exact hch.2.2.2.2.1.1)) (by rw [hpool₁]; exact hch.2.2.2.2.1.2.2)
  have hpk : (T.setVm vm₁).plainMethod ⟨cell.cls, 1⟩ := State.plainMethod.of_name (fun k' hk' => by cases hkK₁.symm.trans hk'; rw [hkn₁]; decide)
  have hd' : decode c.code pc = .ok (.invokeinterface ix count, 5) := by rw [hb]; exact hd
  obtain ⟨mc, hmc⟩ : ∃ z, z = hp_top r.2 - hp_top h := ⟨_, rfl⟩
  obtain ⟨ms, hms⟩ : ∃ z, z = hp_use r.2 - hp_use h := ⟨_, rfl⟩
  rw [← hmc, ← hms] at hf ⊢
  obtain ⟨Y₀, hin⟩ := X₁.into (g := F0 m pc ls rest) rfl (hsz.trans hml.symm) hd' #[.ref a, .ref gr] (R' := { frames := 8 * d + 20, cells := mc, slots := ms, locals := 1000 * d + 5100 }) hmk₁ hckK₁ hlk₁ hpk
    (by show 8 * d + 20 + 1 ≤ 8 * (d + 1) + 16; omega) (by rw [hml₁]; show 2 * 0 + (rest.map fun v => v.category).sum + (2 + 11) + (1000 * d + 5100) ≤ 1000 * (d + 1) + 5000; omega) hf.1 hf.2
  obtain ⟨s', hs'⟩ : ∃ z, z = (T.setVm vm₁).calling (F0 m pc ls rest) ⟨cell.cls, 1⟩ #[.ref a, .ref gr] := ⟨_, rfl⟩
  rw [← hs'] at Y₀
  obtain ⟨U₀, hU₀⟩ : ∃ z, z = ((T.setVm vm₁).setTop (F0 m pc ls rest)).pushFrame (.java (entryFrame ⟨cell.cls, 1⟩ #[.ref a, .ref gr] ckK₁.maxLocals)) := ⟨_, rfl⟩
  rw [← hU₀] at Y₀ hin
  have hvm : U₀.vm = vm₁ := by rw [hU₀]; rfl
  have hheap : U₀.heap = H := by rw [hU₀]; exact hT
  have hWs : s.WarmedH s'.vm := by rw [hs']; exact hW₁
  have hentry : entryFrame ⟨cell.cls, 1⟩ #[.ref a, .ref gr] ckK₁.maxLocals = { method := ⟨cell.cls, 1⟩, pc := 0, locals := #[.val (.ref a), .val (.ref gr)], stack := [], locked := none } := by rw [hml₁]; rfl
  rw [hentry] at hin
  have htop₀ : U₀.topJava?.isSome := Y₀.here.top
  have hpre : Steps p.tables e (.java (F0 m pc ls rest) :: below) (U₀.setTop { method := ⟨cell.cls, 1⟩, pc := 0, locals := #[.val (.ref a), .val (.ref gr)], stack := [], locked := none })
      (U₀.setTop { method := ⟨cell.cls, 1⟩, pc := pcI, locals := #[.val (.ref a), .val (.ref gr)], stack := ((List.range ncap).map (hp_at h a) ++ [Value.ref gr]).reverse, locked := none }) ∧ decode ckK₁.code pcI = .ok (.invokestatic mi, 3) ∧ decode ckK₁.code (pcI + 3) = .ok (.ireturn, 1) := by
    rcases hcase with ⟨rfl, rfl, rfl, rfl⟩ | ⟨rfl, rfl, rfl, rfl, hlq⟩
    · refine ⟨?_, by rw [hbytes₁]; exact lm_d01, by rw [hbytes₁]; exact lm_d04⟩
      jvm_step Y₀.here [hx, hbytes₁, lm_d00, Value.isRef]
      exact Steps.refl _
    · refine ⟨?_, by rw [hbytes₁]; exact lm_d15, by rw [hbytes₁]; exact lm_d18⟩
      rw [hlq] at hfrd₁
      obtain ⟨f1, f2, f3, f4⟩ := lm_f1
      obtain ⟨fld, hfld, hfp⟩ := Option.map_eq_some_iff.mp f4
      simp only [Prod.mk.injEq] at hfp
      have hfr := hfrd₁ 0 15 fld hfld 2 14 _ _ f1 f2 f3
      have hv0 : cell.slots[fld.slot]? = some (hp_at h a 0) := by
        rw [hfp.2]
        have := c6 0 (by rw [hln]; exact Nat.one_pos)
        rw [show rl_ix D (hp_kd h a) 0 = 0 from by unfold rl_ix; rw [if_neg (by omega), if_neg (by omega)]] at this
        exact this
      jvm_step Y₀.here [hx, hbytes₁, lm_d10, Value.isRef]
      jvm_step Y₀.here [hx, hbytes₁, lm_d11, getfield.wp_ready (e := e) (s := U₀) (f := { method := ⟨cell.cls, 1⟩, pc := 1, locals := #[.val (.ref a), .val (.ref gr)], stack := [.ref a], locked := none }) (index := 15) (c := cell.cls) (a := a) (field := fld) (rest := []) (cell := cell) (v := hp_at h a 0) htop₀ (by rw [hvm]; exact hfr) hfp.1 rfl (by rw [hheap]; exact c1) c3 hv0]
      jvm_step Y₀.here [hx, hbytes₁, lm_d14, Value.isRef]
      exact Steps.refl _
  obtain ⟨hpre, hdI, hdR⟩ := hpre
  have hback : vx_Back l { frames := 8 * d + 20, cells := mc, slots := ms, locals := 1000 * d + 5100 } p e (.java (F0 m pc ls rest) :: below) s' #[.ref a, .ref gr] q.1 3 8 (PreOf { frames := 8 * d + 20, cells := mc, slots := ms, locals := 1000 * d + 5100 } mc ms (cx_P D E h ((List.range ncap).map (hp_at h a) ++ [Value.ref gr]))) (PostOf (cx_Q D E r) mc ms (rl_A E.1)) (vx_Post (cx_X D E r) mc ms (rl_A E.1)) := by
    subst hmc hms
    exact vx_back (bytes := q.2.1) (maxL := q.2.2.1) (ret := q.2.2.2.1) hM cx_blind rfl rfl (by show 8 * d + 16 + 1 ≤ 8 * d + 20; omega) (by have := hok.2.2.2.2; show 8 + (q.2.2.1 + 11) + (1000 * d + 5000) ≤ 1000 * d + 5100; omega)
      (fun w hw a' U hWU => mi_good hok hts w hw a' U (State.WarmedH.trans hWs hWU)) (by rw [mi_plw hpl]; exact List.mem_cons_self) (fun a' U hWU => word_at (State.WarmedH.trans hWs hWU) (Or.inl (by first | rfl | simp [Cond.onTables, Cond.keeps, Cond.steady])) (hts _ hok.2.1))
  have hnamed₀ : U₀.methodNamed? q.1 = some t₁ := by
    have := State.methodNamed?_setVm (s := s) hW₁.alike q.1
    rw [hmT] at this
    rw [← this]
    simp only [State.methodNamed?, hvm, State.vm_setVm]
  have hPc : cx_P D E h ((List.range ncap).map (hp_at h a) ++ [Value.ref gr]) ((List.range ncap).map (hp_at h a) ++ [Value.ref gr]).toArray U₀ := cx_pre hK hr hS hB _ U₀ hheap (by rw [hvm]; exact hW₁)
  have hlenA : ((List.range ncap).map (hp_at h a) ++ [Value.ref gr]).length = methT.sig.parameters.length := by
    rw [List.length_append, List.length_map, List.length_range]
    exact mi_len hmn _ hsigT
  have hcallS : ∀ As : List Value, As.length = methT.sig.parameters.length → ∀ target, Steps p.tables e (.java (F0 m pc ls rest) :: below) (doInvoke e (U₀.setTop { method := ⟨cell.cls, 1⟩, pc := pcI, locals := #[.val (.ref a), .val (.ref gr)], stack := [], locked := none }) [] t₁ As.toArray).1 target →
      Steps p.tables e (.java (F0 m pc ls rest) :: below) (U₀.setTop { method := ⟨cell.cls, 1⟩, pc := pcI, locals := #[.val (.ref a), .val (.ref gr)], stack := As.reverse, locked := none }) target := by
    intro As hlenA target htg
    jvm_step Y₀.here [hx, hdI, invokestatic.wp_ready (e := e) (s := U₀) (m := t₁) (k := tk₁) (meth := methT) (args := As) (rest := [])
      (f := { method := ⟨cell.cls, 1⟩, pc := pcI, locals := #[.val (.ref a), .val (.ref gr)], stack := As.reverse, locked := none }) htop₀ ⟨ci, _, _, bM, t₁.cls, tk₁, by rw [hvm]; exact hmem, by rw [hvm]; exact hclsR₁, by rw [hvm]; exact htk₁, by simp [hsp]⟩ (by rw [hvm]; exact hready₁) (by rw [hvm]; exact htk₁) (by rw [hvm]; exact hmethT₁) (hsp _) hstaticT (by rw [heT₁]; exact hinitK) hlenA (by rw [List.append_nil])]
    intro acts'
    rw [doInvoke_state]
    exact htg
  rcases hback ⟨cell.cls, 1⟩ methk₁ ckK₁ ⟨U₀, [], 0, 0⟩ { method := ⟨cell.cls, 1⟩, pc := pcI, locals := #[.val (.ref a), .val (.ref gr)], stack := [], locked := none } (.invokestatic mi) t₁ ((List.range ncap).map (hp_at h a) ++ [Value.ref gr]).toArray Y₀ rfl (by rw [hml₁]; rfl) hdI (by show 2 * 0 + 0 ≤ 8; omega) hnamed₀
    ⟨by show 0 + mc ≤ mc; omega, by show 0 + ms ≤ ms; omega, hPc⟩ with ⟨v, ⟨U', l2, c2', s2⟩, Y₁, ⟨g', mk, t, L, z1, z2, hq, z3, hLf, z4, z5⟩, hsteps⟩ | ⟨qx, ⟨U', l2, c2', s2⟩, Y₁, ⟨g', mk, t, L, En, ce, z1, z2, ⟨⟨y, hy, -⟩, -⟩, -⟩, hsteps⟩
  · dsimp only [Pt.U, Pt.locs, Pt.cells, Pt.slots] at Y₁ z1 z2 z3 z4 z5 hsteps
    subst z3; subst z4; subst z5
    obtain ⟨⟨v', hv1, hv2⟩, hq2⟩ := id hq
    rw [hr1] at hv1
    cases hv1
    cases hv2
    obtain ⟨fs, hleave, -, hended, hWe, hsame⟩ := Y₁.leave (v := some (.int x0)) (fun h => by rw [hretk₁] at h; cases h) hlk₁
    rw [hs'] at hWe hsame
    obtain ⟨T', X', hW', -, ht⟩ := X₁.outOf (g := F0 m pc ls rest) rfl hd' hended hWe hsame
    simp only [Nat.zero_add, List.nil_append] at X'
    have hT'h : T'.heap = U'.heap := (congrArg State.heap ht).symm
    have hT'v : T'.vm = U'.vm := (congrArg State.vm ht).symm
    refine Or.inl ⟨some (.int x0), U₀.calling g' mk ((List.range ncap).map (hp_at h a) ++ [Value.ref gr]).toArray, t, T', _, hheap, X', hLf, hT'h.trans z1, hT'v.trans z2, hq, ?_⟩
    intro target hrest
    refine hstep₁ target fun acts => ?_
    rw [show (T.setVm vm₁).setTop { F0 m pc ls (.ref gr :: .ref a :: rest) with stack := rest } = (T.setVm vm₁).setTop (F0 m pc ls rest) from rfl]
    rw [show ([Value.ref a, Value.ref gr].toArray) = #[Value.ref a, Value.ref gr] from rfl, hin acts]
    have main : Steps p.tables e (.java (F0 m pc ls rest) :: below) (U₀.setTop { method := ⟨cell.cls, 1⟩, pc := 0, locals := #[.val (.ref a), .val (.ref gr)], stack := [], locked := none }) (U'.setFrames fs) := by
      refine hpre.trans (hcallS _ hlenA _ (hsteps.trans ?_))
      have htopU' : U'.topJava?.isSome := Y₁.here.top
      have hnar : narrow .boolean (.int x0) = .int x0 := by rcases h01 with rfl | rfl <;> decide
      show Steps p.tables e (.java (F0 m pc ls rest) :: below) (U'.setTop { method := ⟨cell.cls, 1⟩, pc := pcI + 3, locals := #[.val (.ref a), .val (.ref gr)], stack := [.int x0], locked := none }) _
      jvm_step Y₁.here [htopU', hx, hdR, (show U'.vm.method? ⟨cell.cls, 1⟩ = some methk₁ from Y₁.method'), hretk₁, hnar]
      intro acts''
      rw [hleave { method := ⟨cell.cls, 1⟩, pc := pcI + 3, locals := #[.val (.ref a), .val (.ref gr)], stack := [], locked := none } acts'' rfl rfl rfl]
      exact Steps.refl _
    refine (lm_weaken (mid := [.java (F0 m pc ls rest)]) main).trans ?_
    rw [ht]
    exact hrest
  · rw [hr1] at hy
    cases hy
theorem sx_lcon (hx : p.tables.exec = Jvm.exec) (hb : c.code = cc) (hml : c.maxLocals = nL) (hK : kv_lam D E s) (hsz : ls.size = nL) {j : Nat} {lq : lm_q} (hlj : lm_L[j]? = some lq) (hcap : lq.2.2.2.captured = []) (hmn : s.methodNamed? lq.1 = some m) (hpc : pc = lq.2.1) (hR : 3080 ≤ R.locals) (hW : (rest.map fun v => v.category).sum ≤ 8) (hd : decode cc pc = .ok (.invokedynamic ix, 5))
    (kk : W p l e R s m args below meth c H locs cells slots Q (F0 m (pc + 5) ls (E.2 (10 + j) :: rest))) : W p l e R s m args below meth c H locs cells slots Q (F0 m pc ls rest) := by
  intro T hT X
  obtain ⟨mS, kS, cfS, i0, p0, lk, hmS, hkS, hcfS, hsh, hfind, hmade, hcan, hcase⟩ := hK.1 j lq hlj
  cases hmn.symm.trans hmS
  rcases hcase with ⟨-, a, rfl, hE⟩ | ⟨hne, -⟩
  · obtain ⟨t, h1, h2⟩ := kk T hT X
    refine ⟨t, ?_, h2⟩
    rw [hE] at h1
    exact X.lambdaConstant hx (g := F0 m pc ls rest) rfl (hsz.trans hml.symm) (by rw [hb]; exact hd) hkS (by rw [show (F0 m pc ls rest).pc = lq.2.1 from hpc]; exact hfind) (by rw [X.admits.platform]; show 2 * 0 + (rest.map fun v => v.category).sum + 3072 ≤ R.locals; omega) h1
  · exact absurd hcap hne
theorem lm_arr {α : Type} (arr : Array Nat) (K : Nat → Nat → Nat → Option α) (σ : α) (h : (match arr with | #[a0, a1, a2] => K a0 a1 a2 | _ => none) = some σ) : ∃ a0 a1 a2, K a0 a1 a2 = some σ := by
  obtain ⟨l⟩ := arr
  rcases l with _ | ⟨a0, _ | ⟨a1, _ | ⟨a2, _ | ⟨a3, l⟩⟩⟩⟩
  · exact absurd (show none = some σ from h) (by simp)
  · exact absurd (show none = some σ from h) (by simp)
  · exact absurd (show none = some σ from h) (by simp)
  · exact ⟨a0, a1, a2, h⟩
  · exact absurd (show none = some σ from h) (by simp)
theorem lm_pool {cf : ClassFile} {index : Nat} {σ : Lambda.Shape} (h : Lambda.shapeOf? cf index = some σ) : ∃ bsm nt name desc sig, cf.constantPool[index]? = some (.invokeDynamic bsm nt) ∧ cf.constantPool.nameAndType? nt = some (name, desc) ∧ parseMethodDescriptor desc = some sig ∧ sig.parameters = σ.captured := by
  unfold Lambda.shapeOf? at h
  split at h
  · next b nt hcp =>
    obtain ⟨entries, -, h⟩ := Option.bind_eq_some_iff.mp h
    obtain ⟨bm, -, h⟩ := Option.bind_eq_some_iff.mp h
    split at h
    · obtain ⟨u, -, h⟩ := Option.bind_eq_some_iff.mp h
      obtain ⟨a0, a1, a2, h⟩ := lm_arr _ _ _ h
      split at h
      · split at h
        · split at h
          · obtain ⟨nd, hnd, h⟩ := Option.bind_eq_some_iff.mp h
            obtain ⟨site, hsite, h⟩ := Option.bind_eq_some_iff.mp h
            split at h
            · simp only [Option.bind_eq_bind, Option.bind_eq_some_iff, Option.pure_def, Option.some.injEq] at h
              obtain ⟨im, -, w1, -, w2, -, w3, -, w4, -, w5, -, rfl⟩ := h
              exact ⟨b, nt, nd.1, nd.2, site, hcp, hnd, hsite, rfl⟩
            · cases h
          · cases h
        · cases h
      · cases h
    · cases h
  · cases h
end
end LAM
