/-! calls of overriding methods (a likeness by its kind), answers that are cells, null -/
section JW3
variable {l : Launch} {R : Room} {D : va_G} {dA : Nat → ClassId} {wf : Sg → va_W} {cc : ByteArray} {nL : Nat} {own : String} {G : Gx} {σ : Sg} {pc : Nat} {lv : List (Nat × Value)} {st : List Value}
theorem jw_declA {x : MethodName} (h : Jvm.Cond.declares x ∈ jw_nw) : ∀ (s : State) (args : Array Value), (∀ w ∈ lw_all, w.before args s = true) → jw_NW s → va_Decl s x := fun s _ _ hN => va_Decl.abs (hN.1 _ h)
theorem jw_declC {x : MethodName} {b : ByteArray} {k : Nat} {r : Option FieldType} (h1 : Jvm.Cond.instanceMethod x ∈ lw_all) (h2 : Jvm.Cond.code x b k r ∈ lw_all) : ∀ (s : State) (args : Array Value), (∀ w ∈ lw_all, w.before args s = true) → jw_NW s → va_Decl s x := fun _ _ hts _ => va_Decl.of (hts _ h1) (hts _ h2)
theorem jw_callUi (F : FX l R D dA wf cc nL own G) {x y : MethodName} {cc' : ByteArray} {nL' index n q0 ci b : Nat} {C : String} {ret : FieldType} {rm : Room} {as As rest st0 : List Value} {Qz : Int → Sg → Prop} (hM : MXi l D dA wf y cc' nL' ret rm as σ Qz)
    (hcode : Jvm.Cond.code y cc' nL' (some ret) ∈ lw_all) (hl : Jvm.Cond.methodLink own index x ∈ lw_all) (hsm : Jvm.Cond.sameMethod x.cls x.cls x.name x.desc ∈ lw_all) (hdc : ∀ (s : State) (args : Array Value), (∀ w ∈ lw_all, w.before args s = true) → jw_NW s → va_Decl s x) (hse : Jvm.Cond.selects C x y ∈ lw_all) (hi : Jvm.Cond.instanceMethod y ∈ lw_all) (hini : Jvm.Cond.initialized y.cls ∈ lw_all)
    (hd : x.cls ≠ "java/lang/invoke/MethodHandle" ∧ x.cls ≠ "java/lang/invoke/VarHandle" ∧ (parseMethodDescriptor x.desc).map (fun d => d.parameters.length) = some n) (hrm : rm.cells = 0 ∧ rm.slots = 0 ∧ rm.frames + 1 ≤ R.frames ∧ 8 + (nL' + 11) + rm.locals ≤ R.locals)
    {q : vw_C} {fs : List Value} (hc : jw_cl[ci]? = some q) (hq : q.1 = C) (he : (wf σ)[q0]? = some (b, .inr (ci, fs))) (has : as = .ref b :: As) (hst : st0 = As.reverse ++ .ref b :: rest) (hn : As.length = n) (hW : (rest.map fun v => v.category).sum ≤ 8) (d : decode cc pc = .ok (.invokevirtual index, 3)) (kk : ∀ z σ', Qz z σ' → G σ' (pc + 3) lv (.int (iI z) :: rest)) : G σ pc lv st0 := by
  obtain ⟨p, e, s, m, args, below, meth, c, Q, A, rfl, hx, hb, hml, hown, hts, hK, hN, hA⟩ := F
  intro H locs ls hl' hP hD hS
  subst has
  have hG : GoodIn lw_all (ws_ y cc' nL' (some ret)) := lw_meth hcode
  have cw : va_CU R s args own C x.cls index x y cc' nL' (some ret) (ws_ y cc' nL' (some ret)) rm 0 0 n := by
    refine ⟨⟨hrm.1, hrm.2.1, hrm.2.2.1, hrm.2.2.2, pay_in hts hG, List.mem_cons_self⟩, hts _ hcode, hts _ hini, ⟨hd.1, hd.2.1⟩, fun sig h => ?_, hts _ hl, hts _ hsm, hdc s args hts hN, hts _ hse, hts _ hi⟩
    have h2 := hd.2.2
    rw [h] at h2
    exact (Option.some.inj h2).symm
  refine va_calli (va_runU (As := As) (rest := rest) ⟨hx, hb, hml, hown, hts⟩ (hM A) cw ⟨jw_blind, by rw [← hq]; exact va_recv hK hP hc he, fun U hU hW => jw_entry hP hD hS hK hN hA hU hW⟩ rfl hn hl'.1 hst (lv_room hW) d ⟨Nat.zero_le _, Nat.zero_le _⟩) hS (fun q _ h => h) (fun q h => h) ?_
  intro r u t H1 locs1 ht hvm hw hB hz1 hk1 hS1
  obtain ⟨rfl, hw⟩ := hw
  subst ht
  exact kk u.1 u.2 hw _ locs1 ls hl' hB.1 hB.2 hS1
/-- super.m(..) -/
theorem jw_callSUi (F : FX l R D dA wf cc nL own G) {y : MethodName} {cc' : ByteArray} {nL' index n q0 ci b : Nat} {ret : FieldType} {rm : Room} {as As rest st0 : List Value} {Qz : Int → Sg → Prop} (hM : MXi l D dA wf y cc' nL' ret rm as σ Qz)
    (hcode : Jvm.Cond.code y cc' nL' (some ret) ∈ lw_all) (hl : Jvm.Cond.methodLink own index y ∈ lw_all) (hsm : Jvm.Cond.sameMethod y.cls y.cls y.name y.desc ∈ lw_all) (hsu : Jvm.Cond.superclass own y.cls ∈ lw_all) (hi : Jvm.Cond.instanceMethod y ∈ lw_all) (hini : Jvm.Cond.initialized y.cls ∈ lw_all)
    (hd : y.name ≠ "<init>" ∧ (parseMethodDescriptor y.desc).map (fun d => d.parameters.length) = some n) (hrm : rm.cells = 0 ∧ rm.slots = 0 ∧ rm.frames + 1 ≤ R.frames ∧ 8 + (nL' + 11) + rm.locals ≤ R.locals)
    {q : vw_C} {fs : List Value} (hc : jw_cl[ci]? = some q) (he : (wf σ)[q0]? = some (b, .inr (ci, fs))) (has : as = .ref b :: As) (hst : st0 = As.reverse ++ .ref b :: rest) (hn : As.length = n) (hW : (rest.map fun v => v.category).sum ≤ 8) (d : decode cc pc = .ok (.invokespecial index, 3)) (kk : ∀ z σ', Qz z σ' → G σ' (pc + 3) lv (.int (iI z) :: rest)) : G σ pc lv st0 := by
  obtain ⟨p, e, s, m, args, below, meth, c, Q, A, rfl, hx, hb, hml, hown, hts, hK, hN, hA⟩ := F
  intro H locs ls hl' hP hD hS
  subst has
  have hG : GoodIn lw_all (ws_ y cc' nL' (some ret)) := lw_meth hcode
  have cw : va_CS R s args own index y cc' nL' (some ret) (ws_ y cc' nL' (some ret)) rm 0 0 n := by
    refine ⟨⟨hrm.1, hrm.2.1, hrm.2.2.1, hrm.2.2.2, pay_in hts hG, List.mem_cons_self⟩, hts _ hl, hts _ hsm, hts _ hsu, hts _ hi, hts _ hini, hts _ hcode, hd.1, fun sig h => ?_⟩
    have h2 := hd.2
    rw [h] at h2
    exact (Option.some.inj h2).symm
  refine va_calli (va_runSU (As := As) (rest := rest) (hK.1 ci q hc).2 ⟨hx, hb, hml, hown, hts⟩ (hM A) cw ⟨jw_blind, va_recv hK hP hc he, fun U hU hW => jw_entry hP hD hS hK hN hA hU hW⟩ rfl hn hl'.1 hst (lv_room hW) d ⟨Nat.zero_le _, Nat.zero_le _⟩) hS (fun q _ h => h) (fun q h => h) ?_
  intro r u t H1 locs1 ht hvm hw hB hz1 hk1 hS1
  obtain ⟨rfl, hw⟩ := hw
  subst ht
  exact kk u.1 u.2 hw _ locs1 ls hl' hB.1 hB.2 hS1
theorem jw_null (F : FX l R D dA wf cc nL own G) (d : decode cc pc = .ok (.aconst_null, 1)) (k : G σ (pc + 1) lv (.null :: st)) : G σ pc lv st := by
  obtain ⟨p, e, s, m, args, below, meth, c, Q, A, rfl, hx, hb, hml, hown, hts, hK, hN, hA⟩ := F
  intro H locs ls hl hP hD hS
  exact lv_null hx hb d (k H locs ls hl hP hD hS)
/-- a private member of a nest mate -/
theorem jw_callVNzp (F : FX l R D dA wf cc nL own G) {y : MethodName} {cc' : ByteArray} {nL' index n q0 ci b : Nat} {C host : String} {rm : Room} {as As rest st0 : List Value} {Qp : Int → Prop} (hM : MXi l D dA wf y cc' nL' .boolean rm as σ (fun z s9 => (z = 0 ∨ z = 1) ∧ s9 = σ ∧ Qp z))
    (hl : Jvm.Cond.methodLinkNest own index y host ∈ jw_nw) (hg : GoodIn lw_all (ws_ y cc' nL' (some .boolean))) (hi : Jvm.Cond.instanceMethod y ∈ lw_all) (hse : Jvm.Cond.selects C y y ∈ lw_all) (hini : Jvm.Cond.initialized y.cls ∈ lw_all)
    (hd : y.cls = C ∧ y.cls ≠ "java/lang/invoke/MethodHandle" ∧ y.cls ≠ "java/lang/invoke/VarHandle" ∧ (parseMethodDescriptor y.desc).map (fun d => d.parameters.length) = some n) (hrm : rm.cells = 0 ∧ rm.slots = 0 ∧ rm.frames + 1 ≤ R.frames ∧ 8 + (nL' + 11) + rm.locals ≤ R.locals)
    {q : vw_C} {fs : List Value} (hc : jw_cl[ci]? = some q) (hq : q.1 = C) (he : (wf σ)[q0]? = some (b, .inr (ci, fs))) (has : as = .ref b :: As) (hst : st0 = As.reverse ++ .ref b :: rest) (hn : As.length = n) (hW : (rest.map fun v => v.category).sum ≤ 8) (d : decode cc pc = .ok (.invokevirtual index, 3)) (kk : ∀ z, (z = 0 ∨ z = 1) → Qp z → G σ (pc + 3) lv (.int (iI z) :: rest)) : G σ pc lv st0 := by
  obtain ⟨p, e, s, m, args, below, meth, c, Q, A, rfl, hx, hb, hml, hown, hts, hK, hN, hA⟩ := F
  intro H locs ls hl' hP hD hS
  subst has
  refine va_calli (va_runVN (As := As) (rest := rest) ⟨hx, hb, hml, hown, hts⟩ (hM A) ⟨va_cnB n hts hg rfl hrm.1 hrm.2.1 (hN.1 _ hl) (hts _ hini) hd.2 ⟨hrm.2.2.1, hrm.2.2.2⟩, hts _ hi, hts _ hse⟩ ⟨jw_blind, by rw [← hq]; exact va_recv hK hP hc he, fun U hU hW => jw_entry hP hD hS hK hN hA hU hW⟩ rfl hn hl'.1 hst (lv_room hW) d ⟨Nat.zero_le _, Nat.zero_le _⟩) hS (fun q _ h => h) (fun q h => h) ?_
  intro r u t H1 locs1 ht hvm hw hB hz1 hk1 hS1
  obtain ⟨rfl, h01, hs, hw⟩ := hw
  subst ht
  rw [← hs] at kk
  exact kk u.1 h01 hw _ locs1 ls hl' hB.1 hB.2 hS1
/-- an answer that is a cell -/
def MXr (l : Launch) (D : va_G) (dA : Nat → ClassId) (wf : Sg → va_W) (y : MethodName) (cc : ByteArray) (nL : Nat) (rt : FieldType) (rm : Room) (as : List Value) (σ : Sg) (Qa : Nat → Sg → Prop) : Prop :=
  ∀ A : Nat → Prop, Met l y (ws_ y cc nL (some rt)) rm (va_Pc as (jw_pre D dA wf A σ)) (va_Qr (S := Sg) (fun _ => True) (fun u a t => Qa a u ∧ jw_post D wf A u t) A) 0 0 A
theorem jw_start_r {y : MethodName} {rt : FieldType} {rm : Room} {as : List Value} {lv0 : List (Nat × Value)} {Qa : Nat → Sg → Prop} (hy : plainName y.cls = true) (hown : y.cls = own) (hrt : (∃ n, rt = .object n) ∨ ∃ t, rt = .array t) (hsl : (lg_sl as).length ≤ nL) (hlv : lv_args 0 as = lv0) (body : ∀ G : Gx, FX l rm D dA wf cc nL own G → (∀ (σ : Sg) (pc : Nat) (lv : List (Nat × Value)) (a : Nat), decode cc pc = .ok (.areturn, 1) → Qa a σ → G σ pc lv [.ref a]) → G σ 0 lv0 []) : MXr l D dA wf y cc nL rt rm as σ Qa := by
  intro A
  refine Met.ofW (cc := cc) (maxL := nL) (ret := (some rt)) hy rfl ?_
  intro p e s m args below meth c s₁ B hml hv
  obtain ⟨rfl, hP, hD, hK, hN, hA⟩ := hv
  have hx := B.exec
  have hb := B.bytes
  have hr := B.returns
  have hts := atoms_spec (ws := ws_ y cc nL (some rt)) B.pre
  have hts : ∀ w ∈ lw_all, w.before _ s = true := fun w h => hts w (List.mem_cons_of_mem _ h)
  have hown : s.vm.findClass own = some m.cls := by rw [← hown]; exact findClass_of_methodNamed B.named
  have hlocks := B.notSynchronized
  have hl := lv_entry as (n := nL) hsl
  rw [hlv] at hl
  rw [lg_entry_eq]
  refine body _ ⟨p, e, s, m, _, below, meth, c, _, A, rfl, hx, hb, hml, hown, hts, hK, hN, hA⟩ ?_ s.heap [] _ hl hP hD va_S.rf
  intro σ pc lv a d hq H locs ls hl hP hD hS
  exact W.aret (v := .ref a) hx hb hr hrt (Or.inr ⟨a, rfl⟩) (fun t ht hW => ⟨⟨σ, a, rfl, trivial, hq, by rw [ht]; exact hP, hD⟩, hS.F ht⟩) hS.2.2 d
theorem jw_callVrp (F : FX l R D dA wf cc nL own G) {y : MethodName} {cc' : ByteArray} {nL' index n q0 ci b : Nat} {C : String} {rt : FieldType} {rm : Room} {as As rest st0 : List Value} {Qa : Nat → Prop} (hM : MXr l D dA wf y cc' nL' rt rm as σ (fun a s9 => s9 = σ ∧ Qa a)) (hg : GoodIn lw_all (wsV own index C y (ws_ y cc' nL' (some rt)))) (hd : y.cls = C ∧ y.cls ≠ "java/lang/invoke/MethodHandle" ∧ y.cls ≠ "java/lang/invoke/VarHandle" ∧ (parseMethodDescriptor y.desc).map (fun d => d.parameters.length) = some n) (hrm : rm.cells = 0 ∧ rm.slots = 0 ∧ rm.frames + 1 ≤ R.frames ∧ 8 + (nL' + 11) + rm.locals ≤ R.locals) {q : vw_C} {fs : List Value} (hc : jw_cl[ci]? = some q) (hq : q.1 = C) (he : (wf σ)[q0]? = some (b, .inr (ci, fs))) (has : as = .ref b :: As) (hst : st0 = As.reverse ++ .ref b :: rest) (hn : As.length = n) (hW : (rest.map fun v => v.category).sum ≤ 8) (d : decode cc pc = .ok (.invokevirtual index, 3)) (kk : ∀ a, Qa a → G σ (pc + 3) lv (.ref a :: rest)) : G σ pc lv st0 := by
  obtain ⟨p, e, s, m, args, below, meth, c, Q, A, rfl, hx, hb, hml, hown, hts, hK, hN, hA⟩ := F
  intro H locs ls hl hP hD hS
  subst has
  refine va_callr (va_runV (As := As) (rest := rest) ⟨hx, hb, hml, hown, hts⟩ (hM A) (cwV n hts hg rfl hrm.1 hrm.2.1 hd ⟨hrm.2.2.1, hrm.2.2.2⟩) ⟨jw_blind, by rw [← hq]; exact va_recv hK hP hc he, fun U hU hW => jw_entry hP hD hS hK hN hA hU hW⟩ rfl hn hl.1 hst (lv_room hW) d ⟨Nat.zero_le _, Nat.zero_le _⟩) hS (fun q _ h => h) (fun q h => h) ?_
  intro u a t H1 locs1 ht hvm hw hB hz1 hk1 hS1
  obtain ⟨⟨hs, hqa⟩, hB1, hB2⟩ := hB
  subst ht
  rw [← hs] at kk
  exact kk a hqa _ locs1 ls hl hB1 hB2 hS1
theorem jw_mmax (F : FX l R D dA wf cc nL own G) {a b : Int} (ha : Rg a) (hb0 : Rg b) {index : Nat} (h1 : Jvm.Cond.methodLink own index Lib.Math.max.name ∈ lw_all) (h2 : Jvm.Cond.static Lib.Math.max.name ∈ lw_all) (h3 : Jvm.Cond.initialized "java/lang/Math" ∈ lw_all) (h4 : Jvm.Cond.code Lib.Math.max.name Lib.Math.max.code 2 (some .int) ∈ lw_all) (hR : 1 ≤ R.frames ∧ 30 ≤ R.locals) (hW : (st.map fun v => v.category).sum ≤ 8) (d : decode cc pc = .ok (.invokestatic index, 3)) (kk : G σ (pc + 3) lv (.int (iI (imax a b)) :: st)) : G σ pc lv (.int (iI b) :: .int (iI a) :: st) := by
  obtain ⟨p, e, s, m, args, below, meth, c, Q, A, rfl, hx, hb, hml, hown, hts, hK, hN, hA⟩ := F
  intro H locs ls hl hP hD hS
  refine va_mmax hx hb (hml.trans hl.1.symm) hown (hts _ h1) (hts _ h2) (hts _ h3) (hts _ h4) hR.1 (by omega) (Nat.zero_le _) (Nat.zero_le _) d ?_
  have e2 : (if iI a < iI b then iI b else iI a) = iI (imax a b) := by
    unfold imax
    by_cases q : a < b
    · rw [if_pos q, if_pos ((iI_lt ha hb0).mpr q)]
    · rw [if_neg q, if_neg (fun z => q ((iI_lt ha hb0).mp z))]
  rw [e2]
  exact kk H locs ls hl hP hD hS
theorem jw_mmin (F : FX l R D dA wf cc nL own G) {a b : Int} (ha : Rg a) (hb0 : Rg b) {index : Nat} (h1 : Jvm.Cond.methodLink own index Lib.Math.min.name ∈ lw_all) (h2 : Jvm.Cond.static Lib.Math.min.name ∈ lw_all) (h3 : Jvm.Cond.initialized "java/lang/Math" ∈ lw_all) (h4 : Jvm.Cond.code Lib.Math.min.name Lib.Math.min.code 2 (some .int) ∈ lw_all) (hR : 1 ≤ R.frames ∧ 30 ≤ R.locals) (hW : (st.map fun v => v.category).sum ≤ 8) (d : decode cc pc = .ok (.invokestatic index, 3)) (kk : G σ (pc + 3) lv (.int (iI (imin a b)) :: st)) : G σ pc lv (.int (iI b) :: .int (iI a) :: st) := by
  obtain ⟨p, e, s, m, args, below, meth, c, Q, A, rfl, hx, hb, hml, hown, hts, hK, hN, hA⟩ := F
  intro H locs ls hl hP hD hS
  refine va_mmin hx hb (hml.trans hl.1.symm) hown (hts _ h1) (hts _ h2) (hts _ h3) (hts _ h4) hR.1 (by omega) (Nat.zero_le _) (Nat.zero_le _) d ?_
  have e2 : (if iI b < iI a then iI b else iI a) = iI (imin a b) := by
    unfold imin
    by_cases q : b < a
    · rw [if_pos q, if_pos ((iI_lt hb0 ha).mpr q)]
    · rw [if_neg q, if_neg (fun z => q ((iI_lt hb0 ha).mp z))]
  rw [e2]
  exact kk H locs ls hl hP hD hS
theorem ldneg_102 {own : String} {i : Nat} (h : Jvm.Cond.constantLong own i (-102) ∈ lw_all) : Jvm.Cond.constantLong own i (lI (-102)) ∈ lw_all := by
  rw [show lI (-102) = (-102 : Int64) from by decide]
  exact h
end JW3
