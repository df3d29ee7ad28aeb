/-! ENGINE: a method's walk over a world that is a function of a state of whole numbers (Sg); G s pc locals stack: from any heap that holds s's world the machine, there, comes to the method's end -/
abbrev Gx : Type := Sg → Nat → List (Nat × Value) → List Value → Prop
def WX (p : Program) (l : Launch) (e : Env) (R : Room) (s : State) (m : MethodId) (args : Array Value) (below : List Frame) (meth : Method) (c : Code) (Q : State → Prop) (D : va_G) (A : Nat → Prop) (wf : Sg → va_W) (nL : Nat) : Gx := fun σ pc lv st =>
  ∀ (H : Heap) (locs : List Loc) (ls : Array Slot), lv_has ls nL lv → va_P D jw_cl (wf σ) H → va_D A (wf σ) → va_S A s.heap H locs → W p l e R s m args below meth c H locs 0 0 Q (F0 m pc ls st)
def FX (l : Launch) (R : Room) (D : va_G) (dA : Nat → ClassId) (wf : Sg → va_W) (cc : ByteArray) (nL : Nat) (own : String) (G : Gx) : Prop :=
  ∃ (p : Program) (e : Env) (s : State) (m : MethodId) (args : Array Value) (below : List Frame) (meth : Method) (c : Code) (Q : State → Prop) (A : Nat → Prop),
    G = WX p l e R s m args below meth c Q D A wf nL ∧ p.tables.exec = Jvm.exec ∧ c.code = cc ∧ c.maxLocals = nL ∧ s.vm.findClass own = some m.cls ∧ (∀ w ∈ lw_all, w.before args s = true) ∧ va_K D jw_cl (jw_tys dA) s ∧ jw_NW s ∧ ∀ q, s.heap.size ≤ q → A q
/-- before a method: its world, what the tables say, which cells it may change -/
def jw_pre (D : va_G) (dA : Nat → ClassId) (wf : Sg → va_W) (A : Nat → Prop) (σ : Sg) : State → Prop := fun U =>
  va_P D jw_cl (wf σ) U.heap ∧ va_D A (wf σ) ∧ va_K D jw_cl (jw_tys dA) U ∧ jw_NW U ∧ ∀ q, U.heap.size ≤ q → A q
def jw_post (D : va_G) (wf : Sg → va_W) (A : Nat → Prop) (σ : Sg) (t : State) : Prop := va_P D jw_cl (wf σ) t.heap ∧ va_D A (wf σ)
def MXi (l : Launch) (D : va_G) (dA : Nat → ClassId) (wf : Sg → va_W) (y : MethodName) (cc : ByteArray) (nL : Nat) (ret : FieldType) (rm : Room) (as : List Value) (σ : Sg) (Qz : Int → Sg → Prop) : Prop :=
  ∀ A : Nat → Prop, Met l y (ws_ y cc nL (some ret)) rm (va_Pc as (jw_pre D dA wf A σ)) (va_Qi (S := Int × Sg) (fun r u => r = iI u.1 ∧ Qz u.1 u.2) (fun u t => jw_post D wf A u.2 t) A) 0 0 A
def MXl (l : Launch) (D : va_G) (dA : Nat → ClassId) (wf : Sg → va_W) (y : MethodName) (cc : ByteArray) (nL : Nat) (rm : Room) (as : List Value) (σ : Sg) (Qz : Int → Sg → Prop) : Prop :=
  ∀ A : Nat → Prop, Met l y (ws_ y cc nL (some .long)) rm (va_Pc as (jw_pre D dA wf A σ)) (va_Ql (S := Int × Sg) (fun r u => r = lI u.1 ∧ Qz u.1 u.2) (fun u t => jw_post D wf A u.2 t) A) 0 0 A
def MXv (l : Launch) (D : va_G) (dA : Nat → ClassId) (wf : Sg → va_W) (y : MethodName) (cc : ByteArray) (nL : Nat) (rm : Room) (as : List Value) (σ : Sg) (Qz : Sg → Prop) : Prop :=
  ∀ A : Nat → Prop, Met l y (ws_ y cc nL none) rm (va_Pc as (jw_pre D dA wf A σ)) (va_Qv (S := Sg) Qz (fun u t => jw_post D wf A u t) A) 0 0 A
def RTi (cc : ByteArray) (G : Gx) (Qz : Int → Sg → Prop) : Prop := ∀ (σ : Sg) (pc : Nat) (lv : List (Nat × Value)) (z : Int), decode cc pc = .ok (.ireturn, 1) → Qz z σ → G σ pc lv [.int (iI z)]
def RTz (cc : ByteArray) (G : Gx) (Qz : Int → Sg → Prop) : Prop := ∀ (σ : Sg) (pc : Nat) (lv : List (Nat × Value)) (z : Int), decode cc pc = .ok (.ireturn, 1) → (z = 0 ∨ z = 1) → Qz z σ → G σ pc lv [.int (iI z)]
def RTl (cc : ByteArray) (G : Gx) (Qz : Int → Sg → Prop) : Prop := ∀ (σ : Sg) (pc : Nat) (lv : List (Nat × Value)) (z : Int), decode cc pc = .ok (.lreturn, 1) → Qz z σ → G σ pc lv [.long (lI z)]
def RTv (cc : ByteArray) (G : Gx) (Qz : Sg → Prop) : Prop := ∀ (σ : Sg) (pc : Nat) (lv : List (Nat × Value)), decode cc pc = .ok (.return_, 1) → Qz σ → G σ pc lv []
section JW0
variable {l : Launch} {D : va_G} {dA : Nat → ClassId} {wf : Sg → va_W} {y : MethodName} {cc : ByteArray} {nL : Nat} {rm : Room} {as : List Value} {σ : Sg}
theorem jw_start_i {own : String} {lv0 : List (Nat × Value)} {Qz : Int → Sg → Prop} (hy : plainName y.cls = true) (hown : y.cls = own) (hsl : (lg_sl as).length ≤ nL) (hlv : lv_args 0 as = lv0) (body : ∀ G : Gx, FX l rm D dA wf cc nL own G → RTi cc G Qz → G σ 0 lv0 []) : MXi l D dA wf y cc nL .int rm as σ Qz := by
  intro A
  refine Met.ofW (cc := cc) (maxL := nL) (ret := (some .int)) hy rfl ?_
  intro p e s m args below meth c s₁ B hml hv
  obtain ⟨rfl, hP, hD, hK, hN, hA⟩ := hv
  have hx := B.exec
  have hb := B.bytes
  have hr := B.returns
  have hts := atoms_spec (ws := ws_ y cc nL (some .int)) B.pre
  have hts : ∀ w ∈ lw_all, w.before _ s = true := fun w h => hts w (List.mem_cons_of_mem _ h)
  have hown : s.vm.findClass own = some m.cls := by rw [← hown]; exact findClass_of_methodNamed B.named
  have hlocks := B.notSynchronized
  have hl := lv_entry as (n := nL) hsl
  rw [hlv] at hl
  rw [lg_entry_eq]
  refine body _ ⟨p, e, s, m, _, below, meth, c, _, A, rfl, hx, hb, hml, hown, hts, hK, hN, hA⟩ ?_ s.heap [] _ hl hP hD va_S.rf
  intro σ pc lv z d hq H locs ls hl hP hD hS
  exact W.iret (v := iI z) hx hb hr (fun t ht hW => ⟨⟨iI z, (z, σ), rfl, ⟨rfl, hq⟩, ⟨by rw [ht]; exact hP, hD⟩⟩, hS.F ht⟩) hS.2.2 d
theorem jw_start_z {own : String} {lv0 : List (Nat × Value)} {Qz : Int → Sg → Prop} (hy : plainName y.cls = true) (hown : y.cls = own) (hsl : (lg_sl as).length ≤ nL) (hlv : lv_args 0 as = lv0) (body : ∀ G : Gx, FX l rm D dA wf cc nL own G → RTz cc G Qz → G σ 0 lv0 []) : MXi l D dA wf y cc nL .boolean rm as σ Qz := by
  intro A
  refine Met.ofW (cc := cc) (maxL := nL) (ret := (some .boolean)) hy rfl ?_
  intro p e s m args below meth c s₁ B hml hv
  obtain ⟨rfl, hP, hD, hK, hN, hA⟩ := hv
  have hx := B.exec
  have hb := B.bytes
  have hr := B.returns
  have hts := atoms_spec (ws := ws_ y cc nL (some .boolean)) B.pre
  have hts : ∀ w ∈ lw_all, w.before _ s = true := fun w h => hts w (List.mem_cons_of_mem _ h)
  have hown : s.vm.findClass own = some m.cls := by rw [← hown]; exact findClass_of_methodNamed B.named
  have hlocks := B.notSynchronized
  have hl := lv_entry as (n := nL) hsl
  rw [hlv] at hl
  rw [lg_entry_eq]
  refine body _ ⟨p, e, s, m, _, below, meth, c, _, A, rfl, hx, hb, hml, hown, hts, hK, hN, hA⟩ ?_ s.heap [] _ hl hP hD va_S.rf
  intro σ pc lv z d h01 hq H locs ls hl hP hD hS
  have hn : narrow .boolean (.int (iI z)) = .int (iI z) := by rcases h01 with rfl | rfl <;> rfl
  exact W.zret (v := iI z) hx hb hr hn (fun t ht hW => ⟨⟨iI z, (z, σ), rfl, ⟨rfl, hq⟩, ⟨by rw [ht]; exact hP, hD⟩⟩, hS.F ht⟩) hS.2.2 d
theorem jw_start_l {own : String} {lv0 : List (Nat × Value)} {Qz : Int → Sg → Prop} (hy : plainName y.cls = true) (hown : y.cls = own) (hsl : (lg_sl as).length ≤ nL) (hlv : lv_args 0 as = lv0) (body : ∀ G : Gx, FX l rm D dA wf cc nL own G → RTl cc G Qz → G σ 0 lv0 []) : MXl l D dA wf y cc nL rm as σ Qz := by
  intro A
  refine Met.ofW (cc := cc) (maxL := nL) (ret := (some .long)) hy rfl ?_
  intro p e s m args below meth c s₁ B hml hv
  obtain ⟨rfl, hP, hD, hK, hN, hA⟩ := hv
  have hx := B.exec
  have hb := B.bytes
  have hr := B.returns
  have hts := atoms_spec (ws := ws_ y cc nL (some .long)) B.pre
  have hts : ∀ w ∈ lw_all, w.before _ s = true := fun w h => hts w (List.mem_cons_of_mem _ h)
  have hown : s.vm.findClass own = some m.cls := by rw [← hown]; exact findClass_of_methodNamed B.named
  have hlocks := B.notSynchronized
  have hl := lv_entry as (n := nL) hsl
  rw [hlv] at hl
  rw [lg_entry_eq]
  refine body _ ⟨p, e, s, m, _, below, meth, c, _, A, rfl, hx, hb, hml, hown, hts, hK, hN, hA⟩ ?_ s.heap [] _ hl hP hD va_S.rf
  intro σ pc lv z d hq H locs ls hl hP hD hS
  exact W.lret (v := lI z) hx hb hr (fun t ht hW => ⟨⟨lI z, (z, σ), rfl, ⟨rfl, hq⟩, ⟨by rw [ht]; exact hP, hD⟩⟩, hS.F ht⟩) hS.2.2 d
theorem jw_start_v {own : String} {lv0 : List (Nat × Value)} {Qz : Sg → Prop} (hy : plainName y.cls = true) (hown : y.cls = own) (hsl : (lg_sl as).length ≤ nL) (hlv : lv_args 0 as = lv0) (body : ∀ G : Gx, FX l rm D dA wf cc nL own G → RTv cc G Qz → G σ 0 lv0 []) : MXv l D dA wf y cc nL rm as σ Qz := by
  intro A
  refine Met.ofW (cc := cc) (maxL := nL) (ret := none) hy rfl ?_
  intro p e s m args below meth c s₁ B hml hv
  obtain ⟨rfl, hP, hD, hK, hN, hA⟩ := hv
  have hx := B.exec
  have hb := B.bytes
  have hr := B.returns
  have hts := atoms_spec (ws := ws_ y cc nL none) B.pre
  have hts : ∀ w ∈ lw_all, w.before _ s = true := fun w h => hts w (List.mem_cons_of_mem _ h)
  have hown : s.vm.findClass own = some m.cls := by rw [← hown]; exact findClass_of_methodNamed B.named
  have hlocks := B.notSynchronized
  have hl := lv_entry as (n := nL) hsl
  rw [hlv] at hl
  rw [lg_entry_eq]
  refine body _ ⟨p, e, s, m, _, below, meth, c, _, A, rfl, hx, hb, hml, hown, hts, hK, hN, hA⟩ ?_ s.heap [] _ hl hP hD va_S.rf
  intro σ pc lv d hq H locs ls hl hP hD hS
  exact W.vret hx hb hr (fun t ht hW => ⟨⟨σ, rfl, hq, ⟨by rw [ht]; exact hP, hD⟩⟩, hS.F ht⟩) hS.2.2 d
end JW0
section JW1
variable {l : Launch} {R : Room} {D : va_G} {dA : Nat → ClassId} {wf : Sg → va_W} {cc : ByteArray} {nL : Nat} {own : String} {G : Gx} {σ : Sg} {pc : Nat} {lv lv' : List (Nat × Value)} {st : List Value} {a b : Int}
theorem jw_iconst (F : FX l R D dA wf cc nL own G) {n : Int} (d : decode cc pc = .ok (.iconst n, 1)) (k : G σ (pc + 1) lv (.int (iI n) :: st)) : G σ pc lv st := by
  obtain ⟨p, e, s, m, args, below, meth, c, Q, A, rfl, hx, hb, hml, hown, hts, hK, hN, hA⟩ := F
  intro H locs ls hl hP hD hS
  exact lv_iconst hx hb d rfl (k H locs ls hl hP hD hS)
theorem jw_bipush (F : FX l R D dA wf cc nL own G) {n z : Int} (d : decode cc pc = .ok (.bipush n, 2)) (hv : (Int8.ofInt n).toInt32 = iI z) (k : G σ (pc + 2) lv (.int (iI z) :: st)) : G σ pc lv st := by
  obtain ⟨p, e, s, m, args, below, meth, c, Q, A, rfl, hx, hb, hml, hown, hts, hK, hN, hA⟩ := F
  intro H locs ls hl hP hD hS
  exact lv_bipush hx hb d hv (k H locs ls hl hP hD hS)
theorem jw_sipush (F : FX l R D dA wf cc nL own G) {n z : Int} (d : decode cc pc = .ok (.sipush n, 3)) (hv : (Int16.ofInt n).toInt32 = iI z) (k : G σ (pc + 3) lv (.int (iI z) :: st)) : G σ pc lv st := by
  obtain ⟨p, e, s, m, args, below, meth, c, Q, A, rfl, hx, hb, hml, hown, hts, hK, hN, hA⟩ := F
  intro H locs ls hl hP hD hS
  exact lv_sipush hx hb d hv (k H locs ls hl hP hD hS)
theorem jw_ldc (F : FX l R D dA wf cc nL own G) {i : Nat} {z : Int} (hc : Jvm.Cond.constant own i (iI z) ∈ lw_all) (d : decode cc pc = .ok (.ldc i, 2)) (k : G σ (pc + 2) lv (.int (iI z) :: st)) : G σ pc lv st := by
  obtain ⟨p, e, s, m, args, below, meth, c, Q, A, rfl, hx, hb, hml, hown, hts, hK, hN, hA⟩ := F
  intro H locs ls hl hP hD hS
  exact lv_ldc hx hb hown (hts _ hc) d (k H locs ls hl hP hD hS)
theorem jw_ldcw (F : FX l R D dA wf cc nL own G) {i : Nat} {z : Int} (hc : Jvm.Cond.constant own i (iI z) ∈ lw_all) (d : decode cc pc = .ok (.ldc_w i, 3)) (k : G σ (pc + 3) lv (.int (iI z) :: st)) : G σ pc lv st := by
  obtain ⟨p, e, s, m, args, below, meth, c, Q, A, rfl, hx, hb, hml, hown, hts, hK, hN, hA⟩ := F
  intro H locs ls hl hP hD hS
  exact lv_ldcw hx hb hown (hts _ hc) d (k H locs ls hl hP hD hS)
theorem jw_ldc2 (F : FX l R D dA wf cc nL own G) {i : Nat} {z : Int} (hc : Jvm.Cond.constantLong own i (lI z) ∈ lw_all) (d : decode cc pc = .ok (.ldc2_w i, 3)) (k : G σ (pc + 3) lv (.long (lI z) :: st)) : G σ pc lv st := by
  obtain ⟨p, e, s, m, args, below, meth, c, Q, A, rfl, hx, hb, hml, hown, hts, hK, hN, hA⟩ := F
  intro H locs ls hl hP hD hS
  exact lv_ldc2 hx hb hown (hts _ hc) d (k H locs ls hl hP hD hS)
theorem jw_lconst (F : FX l R D dA wf cc nL own G) {n : Fin 2} {z : Int} (d : decode cc pc = .ok (.lconst n, 1)) (hv : Int64.ofNat (n : Nat) = lI z) (k : G σ (pc + 1) lv (.long (lI z) :: st)) : G σ pc lv st := by
  obtain ⟨p, e, s, m, args, below, meth, c, Q, A, rfl, hx, hb, hml, hown, hts, hK, hN, hA⟩ := F
  intro H locs ls hl hP hD hS
  exact lv_lconst hx hb d hv (k H locs ls hl hP hD hS)
theorem jw_iload_n (F : FX l R D dA wf cc nL own G) (j : Nat) {n : Fin 4} {i : Nat} (d : decode cc pc = .ok (.iload_n n, 1)) (hi : (n : Nat) = i) (hj : lv[j]? = some (i, .int (iI a))) (k : G σ (pc + 1) lv (.int (iI a) :: st)) : G σ pc lv st := by
  obtain ⟨p, e, s, m, args, below, meth, c, Q, A, rfl, hx, hb, hml, hown, hts, hK, hN, hA⟩ := F
  intro H locs ls hl hP hD hS
  exact lv_iload_n hx hb d hi (lv_at hl j hj) (k H locs ls hl hP hD hS)
theorem jw_iload (F : FX l R D dA wf cc nL own G) (j : Nat) {i : Nat} (d : decode cc pc = .ok (.iload i, 2)) (hj : lv[j]? = some (i, .int (iI a))) (k : G σ (pc + 2) lv (.int (iI a) :: st)) : G σ pc lv st := by
  obtain ⟨p, e, s, m, args, below, meth, c, Q, A, rfl, hx, hb, hml, hown, hts, hK, hN, hA⟩ := F
  intro H locs ls hl hP hD hS
  exact lv_iload hx hb d (lv_at hl j hj) (k H locs ls hl hP hD hS)
theorem jw_lload_n (F : FX l R D dA wf cc nL own G) (j : Nat) {n : Fin 4} {i : Nat} (d : decode cc pc = .ok (.lload_n n, 1)) (hi : (n : Nat) = i) (hj : lv[j]? = some (i, .long (lI a))) (k : G σ (pc + 1) lv (.long (lI a) :: st)) : G σ pc lv st := by
  obtain ⟨p, e, s, m, args, below, meth, c, Q, A, rfl, hx, hb, hml, hown, hts, hK, hN, hA⟩ := F
  intro H locs ls hl hP hD hS
  exact lv_lload_n hx hb d hi (lv_at hl j hj) (k H locs ls hl hP hD hS)
theorem jw_lload (F : FX l R D dA wf cc nL own G) (j : Nat) {i : Nat} (d : decode cc pc = .ok (.lload i, 2)) (hj : lv[j]? = some (i, .long (lI a))) (k : G σ (pc + 2) lv (.long (lI a) :: st)) : G σ pc lv st := by
  obtain ⟨p, e, s, m, args, below, meth, c, Q, A, rfl, hx, hb, hml, hown, hts, hK, hN, hA⟩ := F
  intro H locs ls hl hP hD hS
  exact lv_lload hx hb d (lv_at hl j hj) (k H locs ls hl hP hD hS)
theorem jw_aload_n (F : FX l R D dA wf cc nL own G) (j : Nat) {n : Fin 4} {i x : Nat} (d : decode cc pc = .ok (.aload_n n, 1)) (hi : (n : Nat) = i) (hj : lv[j]? = some (i, .ref x)) (k : G σ (pc + 1) lv (.ref x :: st)) : G σ pc lv st := by
  obtain ⟨p, e, s, m, args, below, meth, c, Q, A, rfl, hx, hb, hml, hown, hts, hK, hN, hA⟩ := F
  intro H locs ls hl hP hD hS
  exact lv_aload_n hx hb d hi (lv_at hl j hj) (k H locs ls hl hP hD hS)
theorem jw_aload (F : FX l R D dA wf cc nL own G) (j : Nat) {i x : Nat} (d : decode cc pc = .ok (.aload i, 2)) (hj : lv[j]? = some (i, .ref x)) (k : G σ (pc + 2) lv (.ref x :: st)) : G σ pc lv st := by
  obtain ⟨p, e, s, m, args, below, meth, c, Q, A, rfl, hx, hb, hml, hown, hts, hK, hN, hA⟩ := F
  intro H locs ls hl hP hD hS
  exact lv_aload hx hb d (lv_at hl j hj) (k H locs ls hl hP hD hS)
theorem jw_istore_n (F : FX l R D dA wf cc nL own G) (ks : List Nat) {n : Fin 4} {i : Nat} (d : decode cc pc = .ok (.istore_n n, 1)) (hi : (n : Nat) = i) (hn : i < nL) (he : lv_pick ((i, Value.int (iI a)) :: lv.filter (fun q => !(q.1 == i) && !(q.1 + 1 == i && q.2.category == 2))) ks = lv') (k : G σ (pc + 1) lv' st) : G σ pc lv (.int (iI a) :: st) := by
  obtain ⟨p, e, s, m, args, below, meth, c, Q, A, rfl, hx, hb, hml, hown, hts, hK, hN, hA⟩ := F
  intro H locs ls hl hP hD hS
  exact lv_istore_n hx hb d hi hl hn rfl (fun ls hl => k H locs ls (lv_sub hl ks he) hP hD hS)
theorem jw_istore (F : FX l R D dA wf cc nL own G) (ks : List Nat) {i : Nat} (d : decode cc pc = .ok (.istore i, 2)) (hn : i < nL) (he : lv_pick ((i, Value.int (iI a)) :: lv.filter (fun q => !(q.1 == i) && !(q.1 + 1 == i && q.2.category == 2))) ks = lv') (k : G σ (pc + 2) lv' st) : G σ pc lv (.int (iI a) :: st) := by
  obtain ⟨p, e, s, m, args, below, meth, c, Q, A, rfl, hx, hb, hml, hown, hts, hK, hN, hA⟩ := F
  intro H locs ls hl hP hD hS
  exact lv_istore hx hb d hl hn rfl (fun ls hl => k H locs ls (lv_sub hl ks he) hP hD hS)
theorem jw_lstore_n (F : FX l R D dA wf cc nL own G) (ks : List Nat) {n : Fin 4} {i : Nat} (d : decode cc pc = .ok (.lstore_n n, 1)) (hi : (n : Nat) = i) (hn : i + 1 < nL) (he : lv_pick ((i, Value.long (lI a)) :: lv.filter (fun q => !(q.1 == i) && (!(q.1 == i + 1) && !(q.1 + 1 == i && q.2.category == 2)))) ks = lv') (k : G σ (pc + 1) lv' st) : G σ pc lv (.long (lI a) :: st) := by
  obtain ⟨p, e, s, m, args, below, meth, c, Q, A, rfl, hx, hb, hml, hown, hts, hK, hN, hA⟩ := F
  intro H locs ls hl hP hD hS
  exact lv_lstore_n hx hb d hi hl hn rfl (fun ls hl => k H locs ls (lv_sub hl ks he) hP hD hS)
theorem jw_lstore (F : FX l R D dA wf cc nL own G) (ks : List Nat) {i : Nat} (d : decode cc pc = .ok (.lstore i, 2)) (hn : i + 1 < nL) (he : lv_pick ((i, Value.long (lI a)) :: lv.filter (fun q => !(q.1 == i) && (!(q.1 == i + 1) && !(q.1 + 1 == i && q.2.category == 2)))) ks = lv') (k : G σ (pc + 2) lv' st) : G σ pc lv (.long (lI a) :: st) := by
  obtain ⟨p, e, s, m, args, below, meth, c, Q, A, rfl, hx, hb, hml, hown, hts, hK, hN, hA⟩ := F
  intro H locs ls hl hP hD hS
  exact lv_lstore hx hb d hl hn rfl (fun ls hl => k H locs ls (lv_sub hl ks he) hP hD hS)
theorem jw_astore_n (F : FX l R D dA wf cc nL own G) {x : Nat} (ks : List Nat) {n : Fin 4} {i : Nat} (d : decode cc pc = .ok (.astore_n n, 1)) (hi : (n : Nat) = i) (hn : i < nL) (he : lv_pick ((i, Value.ref x) :: lv.filter (fun q => !(q.1 == i) && !(q.1 + 1 == i && q.2.category == 2))) ks = lv') (k : G σ (pc + 1) lv' st) : G σ pc lv (.ref x :: st) := by
  obtain ⟨p, e, s, m, args, below, meth, c, Q, A, rfl, hx, hb, hml, hown, hts, hK, hN, hA⟩ := F
  intro H locs ls hl hP hD hS
  exact lv_astore_n hx hb d hi hl hn rfl (fun ls hl => k H locs ls (lv_sub hl ks he) hP hD hS)
theorem jw_astore (F : FX l R D dA wf cc nL own G) {x : Nat} (ks : List Nat) {i : Nat} (d : decode cc pc = .ok (.astore i, 2)) (hn : i < nL) (he : lv_pick ((i, Value.ref x) :: lv.filter (fun q => !(q.1 == i) && !(q.1 + 1 == i && q.2.category == 2))) ks = lv') (k : G σ (pc + 2) lv' st) : G σ pc lv (.ref x :: st) := by
  obtain ⟨p, e, s, m, args, below, meth, c, Q, A, rfl, hx, hb, hml, hown, hts, hK, hN, hA⟩ := F
  intro H locs ls hl hP hD hS
  exact lv_astore hx hb d hl hn rfl (fun ls hl => k H locs ls (lv_sub hl ks he) hP hD hS)
theorem jw_iinc (F : FX l R D dA wf cc nL own G) (j : Nat) (ks : List Nat) {i : Nat} {n : Int} (d : decode cc pc = .ok (.iinc i n, 3)) (hj : lv[j]? = some (i, .int (iI a))) (hn : i < nL) (he : lv_pick ((i, Value.int (iI (a + n))) :: lv.filter (fun q => !(q.1 == i) && !(q.1 + 1 == i && q.2.category == 2))) ks = lv') (k : G σ (pc + 3) lv' st) : G σ pc lv st := by
  obtain ⟨p, e, s, m, args, below, meth, c, Q, A, rfl, hx, hb, hml, hown, hts, hK, hN, hA⟩ := F
  intro H locs ls hl hP hD hS
  exact lv_iinc (v := iI (a + n)) hx hb d hl hj (iI_add a n) hn rfl (fun ls hl => k H locs ls (lv_sub hl ks he) hP hD hS)
theorem jw_sub (F : FX l R D dA wf cc nL own G) (ks : List Nat) (he : lv_pick lv ks = lv') (k : G σ pc lv' st) : G σ pc lv st := by
  obtain ⟨p, e, s, m, args, below, meth, c, Q, A, rfl, hx, hb, hml, hown, hts, hK, hN, hA⟩ := F
  intro H locs ls hl hP hD hS
  exact k H locs ls (lv_sub hl ks he) hP hD hS
theorem jw_iadd (F : FX l R D dA wf cc nL own G) (d : decode cc pc = .ok (.iadd, 1)) (k : G σ (pc + 1) lv (.int (iI (a + b)) :: st)) : G σ pc lv (.int (iI b) :: .int (iI a) :: st) := by
  obtain ⟨p, e, s, m, args, below, meth, c, Q, A, rfl, hx, hb, hml, hown, hts, hK, hN, hA⟩ := F
  intro H locs ls hl hP hD hS
  exact lv_iadd hx hb d (by rw [iI_add]; exact k H locs ls hl hP hD hS)
theorem jw_isub (F : FX l R D dA wf cc nL own G) (d : decode cc pc = .ok (.isub, 1)) (k : G σ (pc + 1) lv (.int (iI (a - b)) :: st)) : G σ pc lv (.int (iI b) :: .int (iI a) :: st) := by
  obtain ⟨p, e, s, m, args, below, meth, c, Q, A, rfl, hx, hb, hml, hown, hts, hK, hN, hA⟩ := F
  intro H locs ls hl hP hD hS
  exact lv_isub hx hb d (by rw [iI_sub]; exact k H locs ls hl hP hD hS)
theorem jw_imul (F : FX l R D dA wf cc nL own G) (d : decode cc pc = .ok (.imul, 1)) (k : G σ (pc + 1) lv (.int (iI (a * b)) :: st)) : G σ pc lv (.int (iI b) :: .int (iI a) :: st) := by
  obtain ⟨p, e, s, m, args, below, meth, c, Q, A, rfl, hx, hb, hml, hown, hts, hK, hN, hA⟩ := F
  intro H locs ls hl hP hD hS
  exact lv_imul hx hb d (by rw [iI_mul]; exact k H locs ls hl hP hD hS)
theorem jw_ladd (F : FX l R D dA wf cc nL own G) (d : decode cc pc = .ok (.ladd, 1)) (k : G σ (pc + 1) lv (.long (lI (a + b)) :: st)) : G σ pc lv (.long (lI b) :: .long (lI a) :: st) := by
  obtain ⟨p, e, s, m, args, below, meth, c, Q, A, rfl, hx, hb, hml, hown, hts, hK, hN, hA⟩ := F
  intro H locs ls hl hP hD hS
  exact lv_ladd hx hb d (by rw [lI_add]; exact k H locs ls hl hP hD hS)
theorem jw_lsub (F : FX l R D dA wf cc nL own G) (d : decode cc pc = .ok (.lsub, 1)) (k : G σ (pc + 1) lv (.long (lI (a - b)) :: st)) : G σ pc lv (.long (lI b) :: .long (lI a) :: st) := by
  obtain ⟨p, e, s, m, args, below, meth, c, Q, A, rfl, hx, hb, hml, hown, hts, hK, hN, hA⟩ := F
  intro H locs ls hl hP hD hS
  exact lv_lsub hx hb d (by rw [lI_sub]; exact k H locs ls hl hP hD hS)
theorem jw_lmul (F : FX l R D dA wf cc nL own G) (d : decode cc pc = .ok (.lmul, 1)) (k : G σ (pc + 1) lv (.long (lI (a * b)) :: st)) : G σ pc lv (.long (lI b) :: .long (lI a) :: st) := by
  obtain ⟨p, e, s, m, args, below, meth, c, Q, A, rfl, hx, hb, hml, hown, hts, hK, hN, hA⟩ := F
  intro H locs ls hl hP hD hS
  exact lv_lmul hx hb d (by rw [lI_mul]; exact k H locs ls hl hP hD hS)
theorem jw_iand (F : FX l R D dA wf cc nL own G) (h0 : 0 ≤ a) (h1 : 0 ≤ b) (d : decode cc pc = .ok (.iand, 1)) (k : G σ (pc + 1) lv (.int (iI (band a b)) :: st)) : G σ pc lv (.int (iI b) :: .int (iI a) :: st) := by
  obtain ⟨p, e, s, m, args, below, meth, c, Q, A, rfl, hx, hb, hml, hown, hts, hK, hN, hA⟩ := F
  intro H locs ls hl hP hD hS
  exact lv_iand hx hb d (by rw [iI_and h0 h1]; exact k H locs ls hl hP hD hS)
theorem jw_ior (F : FX l R D dA wf cc nL own G) (h0 : 0 ≤ a) (h1 : 0 ≤ b) (d : decode cc pc = .ok (.ior, 1)) (k : G σ (pc + 1) lv (.int (iI (bor a b)) :: st)) : G σ pc lv (.int (iI b) :: .int (iI a) :: st) := by
  obtain ⟨p, e, s, m, args, below, meth, c, Q, A, rfl, hx, hb, hml, hown, hts, hK, hN, hA⟩ := F
  intro H locs ls hl hP hD hS
  exact lv_ior hx hb d (by rw [iI_or h0 h1]; exact k H locs ls hl hP hD hS)
theorem jw_ixor (F : FX l R D dA wf cc nL own G) (h0 : 0 ≤ a) (h1 : 0 ≤ b) (d : decode cc pc = .ok (.ixor, 1)) (k : G σ (pc + 1) lv (.int (iI (bxor a b)) :: st)) : G σ pc lv (.int (iI b) :: .int (iI a) :: st) := by
  obtain ⟨p, e, s, m, args, below, meth, c, Q, A, rfl, hx, hb, hml, hown, hts, hK, hN, hA⟩ := F
  intro H locs ls hl hP hD hS
  exact lv_ixor hx hb d (by rw [iI_xor h0 h1]; exact k H locs ls hl hP hD hS)
theorem jw_idiv (F : FX l R D dA wf cc nL own G) (ha : Rg a) (hb0 : Rg b) (h0 : 0 ≤ a) (h1 : 0 < b) (d : decode cc pc = .ok (.idiv, 1)) (k : G σ (pc + 1) lv (.int (iI (a / b)) :: st)) : G σ pc lv (.int (iI b) :: .int (iI a) :: st) := by
  obtain ⟨p, e, s, m, args, below, meth, c, Q, A, rfl, hx, hb, hml, hown, hts, hK, hN, hA⟩ := F
  intro H locs ls hl hP hD hS
  exact lv_idiv hx hb d (iI_nz hb0 (by omega)) (by rw [iI_div ha hb0 h0 h1]; exact k H locs ls hl hP hD hS)
theorem jw_irem (F : FX l R D dA wf cc nL own G) (ha : Rg a) (hb0 : Rg b) (h0 : 0 ≤ a) (h1 : 0 < b) (d : decode cc pc = .ok (.irem, 1)) (k : G σ (pc + 1) lv (.int (iI (a % b)) :: st)) : G σ pc lv (.int (iI b) :: .int (iI a) :: st) := by
  obtain ⟨p, e, s, m, args, below, meth, c, Q, A, rfl, hx, hb, hml, hown, hts, hK, hN, hA⟩ := F
  intro H locs ls hl hP hD hS
  exact lv_irem hx hb d (iI_nz hb0 (by omega)) (by rw [iI_rem ha hb0 h0 h1]; exact k H locs ls hl hP hD hS)
theorem jw_ldiv (F : FX l R D dA wf cc nL own G) (ha : RgL a) (hb0 : RgL b) (h0 : 0 ≤ a) (h1 : 0 < b) (d : decode cc pc = .ok (.ldiv, 1)) (k : G σ (pc + 1) lv (.long (lI (a / b)) :: st)) : G σ pc lv (.long (lI b) :: .long (lI a) :: st) := by
  obtain ⟨p, e, s, m, args, below, meth, c, Q, A, rfl, hx, hb, hml, hown, hts, hK, hN, hA⟩ := F
  intro H locs ls hl hP hD hS
  exact lv_ldiv hx hb d (lI_nz hb0 (by omega)) (by rw [lI_div ha hb0 h0 h1]; exact k H locs ls hl hP hD hS)
theorem jw_lrem (F : FX l R D dA wf cc nL own G) (ha : RgL a) (hb0 : RgL b) (h0 : 0 ≤ a) (h1 : 0 < b) (d : decode cc pc = .ok (.lrem, 1)) (k : G σ (pc + 1) lv (.long (lI (a % b)) :: st)) : G σ pc lv (.long (lI b) :: .long (lI a) :: st) := by
  obtain ⟨p, e, s, m, args, below, meth, c, Q, A, rfl, hx, hb, hml, hown, hts, hK, hN, hA⟩ := F
  intro H locs ls hl hP hD hS
  exact lv_lrem hx hb d (lI_nz hb0 (by omega)) (by rw [lI_rem ha hb0 h0 h1]; exact k H locs ls hl hP hD hS)
theorem jw_ishl (F : FX l R D dA wf cc nL own G) (h0 : 0 ≤ b) (h1 : b < 32) (d : decode cc pc = .ok (.ishl, 1)) (k : G σ (pc + 1) lv (.int (iI (a * 2 ^ b.toNat)) :: st)) : G σ pc lv (.int (iI b) :: .int (iI a) :: st) := by
  obtain ⟨p, e, s, m, args, below, meth, c, Q, A, rfl, hx, hb, hml, hown, hts, hK, hN, hA⟩ := F
  intro H locs ls hl hP hD hS
  exact lv_ishl hx hb d (by rw [iI_shl h0 h1]; exact k H locs ls hl hP hD hS)
theorem jw_ishr (F : FX l R D dA wf cc nL own G) (ha : Rg a) (h0 : 0 ≤ b) (h1 : b < 32) (d : decode cc pc = .ok (.ishr, 1)) (k : G σ (pc + 1) lv (.int (iI (a / 2 ^ b.toNat)) :: st)) : G σ pc lv (.int (iI b) :: .int (iI a) :: st) := by
  obtain ⟨p, e, s, m, args, below, meth, c, Q, A, rfl, hx, hb, hml, hown, hts, hK, hN, hA⟩ := F
  intro H locs ls hl hP hD hS
  exact lv_ishr hx hb d (by rw [iI_shr ha h0 h1]; exact k H locs ls hl hP hD hS)
theorem jw_iushr (F : FX l R D dA wf cc nL own G) (h : 0 ≤ a) (ha : Rg a) (h0 : 0 ≤ b) (h1 : b < 32) (d : decode cc pc = .ok (.iushr, 1)) (k : G σ (pc + 1) lv (.int (iI (a / 2 ^ b.toNat)) :: st)) : G σ pc lv (.int (iI b) :: .int (iI a) :: st) := by
  obtain ⟨p, e, s, m, args, below, meth, c, Q, A, rfl, hx, hb, hml, hown, hts, hK, hN, hA⟩ := F
  intro H locs ls hl hP hD hS
  exact lv_iushr hx hb d (iI_ushr h ha h0 h1) (k H locs ls hl hP hD hS)
theorem jw_lshr (F : FX l R D dA wf cc nL own G) (ha : RgL a) (h0 : 0 ≤ b) (h1 : b < 64) (d : decode cc pc = .ok (.lshr, 1)) (k : G σ (pc + 1) lv (.long (lI (a / 2 ^ b.toNat)) :: st)) : G σ pc lv (.int (iI b) :: .long (lI a) :: st) := by
  obtain ⟨p, e, s, m, args, below, meth, c, Q, A, rfl, hx, hb, hml, hown, hts, hK, hN, hA⟩ := F
  intro H locs ls hl hP hD hS
  exact lv_lshr hx hb d (lI_shr ha h0 h1) (k H locs ls hl hP hD hS)
theorem jw_lushr (F : FX l R D dA wf cc nL own G) (h0 : 0 ≤ b) (h1 : b < 64) (d : decode cc pc = .ok (.lushr, 1)) (k : G σ (pc + 1) lv (.long (lI (a % 18446744073709551616 / 2 ^ b.toNat)) :: st)) : G σ pc lv (.int (iI b) :: .long (lI a) :: st) := by
  obtain ⟨p, e, s, m, args, below, meth, c, Q, A, rfl, hx, hb, hml, hown, hts, hK, hN, hA⟩ := F
  intro H locs ls hl hP hD hS
  exact lv_lushr hx hb d (lI_ushr h0 h1) (k H locs ls hl hP hD hS)
theorem jw_lmask (F : FX l R D dA wf cc nL own G) (j : Nat) (hj : j < 63) (hm : b = 2 ^ j - 1) (d : decode cc pc = .ok (.land, 1)) (k : G σ (pc + 1) lv (.long (lI (a % 2 ^ j)) :: st)) : G σ pc lv (.long (lI b) :: .long (lI a) :: st) := by
  obtain ⟨p, e, s, m, args, below, meth, c, Q, A, rfl, hx, hb, hml, hown, hts, hK, hN, hA⟩ := F
  intro H locs ls hl hP hD hS
  exact lv_land hx hb d (by rw [lI_mask j hj hm]; exact k H locs ls hl hP hD hS)
theorem jw_i2l (F : FX l R D dA wf cc nL own G) (ha : Rg a) (d : decode cc pc = .ok (.i2l, 1)) (k : G σ (pc + 1) lv (.long (lI a) :: st)) : G σ pc lv (.int (iI a) :: st) := by
  obtain ⟨p, e, s, m, args, below, meth, c, Q, A, rfl, hx, hb, hml, hown, hts, hK, hN, hA⟩ := F
  intro H locs ls hl hP hD hS
  exact lv_i2l hx hb d (iI_i2l ha) (k H locs ls hl hP hD hS)
theorem jw_l2i (F : FX l R D dA wf cc nL own G) (d : decode cc pc = .ok (.l2i, 1)) (k : G σ (pc + 1) lv (.int (iI a) :: st)) : G σ pc lv (.long (lI a) :: st) := by
  obtain ⟨p, e, s, m, args, below, meth, c, Q, A, rfl, hx, hb, hml, hown, hts, hK, hN, hA⟩ := F
  intro H locs ls hl hP hD hS
  exact lv_l2i hx hb d (lI_l2i a) (k H locs ls hl hP hD hS)
theorem jw_i2b (F : FX l R D dA wf cc nL own G) (d : decode cc pc = .ok (.i2b, 1)) (k : G σ (pc + 1) lv (.int (iI (Int.bmod a 256)) :: st)) : G σ pc lv (.int (iI a) :: st) := by
  obtain ⟨p, e, s, m, args, below, meth, c, Q, A, rfl, hx, hb, hml, hown, hts, hK, hN, hA⟩ := F
  intro H locs ls hl hP hD hS
  exact lv_i2b hx hb d (iI_i2c a) (k H locs ls hl hP hD hS)
theorem jw_lcmp (F : FX l R D dA wf cc nL own G) (ha : RgL a) (hb0 : RgL b) (d : decode cc pc = .ok (.lcmp, 1)) (k : G σ (pc + 1) lv (.int (iI (cmpI a b)) :: st)) : G σ pc lv (.long (lI b) :: .long (lI a) :: st) := by
  obtain ⟨p, e, s, m, args, below, meth, c, Q, A, rfl, hx, hb, hml, hown, hts, hK, hN, hA⟩ := F
  intro H locs ls hl hP hD hS
  exact W.lcmp hx hb d (by rw [lI_cmp ha hb0]; exact k H locs ls hl hP hD hS)
theorem jw_dup (F : FX l R D dA wf cc nL own G) {v : Value} (hv : v.category = 1) (d : decode cc pc = .ok (.dup, 1)) (k : G σ (pc + 1) lv (v :: v :: st)) : G σ pc lv (v :: st) := by
  obtain ⟨p, e, s, m, args, below, meth, c, Q, A, rfl, hx, hb, hml, hown, hts, hK, hN, hA⟩ := F
  intro H locs ls hl hP hD hS
  exact lv_dup hx hb d hv (k H locs ls hl hP hD hS)
theorem jw_pop (F : FX l R D dA wf cc nL own G) {v : Value} (hv : v.category = 1) (d : decode cc pc = .ok (.pop, 1)) (k : G σ (pc + 1) lv st) : G σ pc lv (v :: st) := by
  obtain ⟨p, e, s, m, args, below, meth, c, Q, A, rfl, hx, hb, hml, hown, hts, hK, hN, hA⟩ := F
  intro H locs ls hl hP hD hS
  exact lv_pop hx hb d hv (k H locs ls hl hP hD hS)
theorem jw_dup2 (F : FX l R D dA wf cc nL own G) {v w : Value} (hv : v.category = 1) (hw : w.category = 1) (d : decode cc pc = .ok (.dup2, 1)) (k : G σ (pc + 1) lv (v :: w :: v :: w :: st)) : G σ pc lv (v :: w :: st) := by
  obtain ⟨p, e, s, m, args, below, meth, c, Q, A, rfl, hx, hb, hml, hown, hts, hK, hN, hA⟩ := F
  intro H locs ls hl hP hD hS
  exact lv_dup2_11 hx hb d hv hw (k H locs ls hl hP hD hS)
theorem jw_icmp_eq (F : FX l R D dA wf cc nL own G) (ha : Rg a) (hb0 : Rg b) {off : Int} {tgt : Nat} (d : decode cc pc = .ok (.if_icmp .eq off, 3)) (ht : (pc : Int) + off = (tgt : Int)) (kt : a = b → G σ tgt lv st) (kf : ¬ a = b → G σ (pc + 3) lv st) : G σ pc lv (.int (iI b) :: .int (iI a) :: st) := by
  obtain ⟨p, e, s, m, args, below, meth, c, Q, A, rfl, hx, hb, hml, hown, hts, hK, hN, hA⟩ := F
  intro H locs ls hl hP hD hS
  refine lv_icmp_eq hx hb d ht (fun q => kt ((iI_inj ha hb0).mp q) H locs ls hl hP hD hS) (fun q => kf (fun z => q ((iI_inj ha hb0).mpr z)) H locs ls hl hP hD hS)
theorem jw_icmp_ne (F : FX l R D dA wf cc nL own G) (ha : Rg a) (hb0 : Rg b) {off : Int} {tgt : Nat} (d : decode cc pc = .ok (.if_icmp .ne off, 3)) (ht : (pc : Int) + off = (tgt : Int)) (kt : ¬ a = b → G σ tgt lv st) (kf : a = b → G σ (pc + 3) lv st) : G σ pc lv (.int (iI b) :: .int (iI a) :: st) := by
  obtain ⟨p, e, s, m, args, below, meth, c, Q, A, rfl, hx, hb, hml, hown, hts, hK, hN, hA⟩ := F
  intro H locs ls hl hP hD hS
  refine lv_icmp_ne hx hb d ht (fun q => kt (fun z => q ((iI_inj ha hb0).mpr z)) H locs ls hl hP hD hS) (fun q => kf ((iI_inj ha hb0).mp q) H locs ls hl hP hD hS)
theorem jw_if_eq (F : FX l R D dA wf cc nL own G) (ha : Rg a) {off : Int} {tgt : Nat} (d : decode cc pc = .ok (.ifCond .eq off, 3)) (ht : (pc : Int) + off = (tgt : Int)) (kt : a = 0 → G σ tgt lv st) (kf : ¬ a = 0 → G σ (pc + 3) lv st) : G σ pc lv (.int (iI a) :: st) := by
  obtain ⟨p, e, s, m, args, below, meth, c, Q, A, rfl, hx, hb, hml, hown, hts, hK, hN, hA⟩ := F
  intro H locs ls hl hP hD hS
  refine lv_if_eq hx hb d ht (fun q => kt ((iI_z ha).mp q) H locs ls hl hP hD hS) (fun q => kf (fun z => q ((iI_z ha).mpr z)) H locs ls hl hP hD hS)
theorem jw_if_ne (F : FX l R D dA wf cc nL own G) (ha : Rg a) {off : Int} {tgt : Nat} (d : decode cc pc = .ok (.ifCond .ne off, 3)) (ht : (pc : Int) + off = (tgt : Int)) (kt : ¬ a = 0 → G σ tgt lv st) (kf : a = 0 → G σ (pc + 3) lv st) : G σ pc lv (.int (iI a) :: st) := by
  obtain ⟨p, e, s, m, args, below, meth, c, Q, A, rfl, hx, hb, hml, hown, hts, hK, hN, hA⟩ := F
  intro H locs ls hl hP hD hS
  refine lv_if_ne hx hb d ht (fun q => kt (fun z => q ((iI_z ha).mpr z)) H locs ls hl hP hD hS) (fun q => kf ((iI_z ha).mp q) H locs ls hl hP hD hS)
theorem jw_icmp_lt (F : FX l R D dA wf cc nL own G) (ha : Rg a) (hb0 : Rg b) {off : Int} {tgt : Nat} (d : decode cc pc = .ok (.if_icmp .lt off, 3)) (ht : (pc : Int) + off = (tgt : Int)) (kt : a < b → G σ tgt lv st) (kf : b ≤ a → G σ (pc + 3) lv st) : G σ pc lv (.int (iI b) :: .int (iI a) :: st) := by
  obtain ⟨p, e, s, m, args, below, meth, c, Q, A, rfl, hx, hb, hml, hown, hts, hK, hN, hA⟩ := F
  intro H locs ls hl hP hD hS
  refine lv_icmp_lt hx hb d ht (fun q => kt (by simp only [GE.ge, GT.gt, iI_le ha hb0, iI_le hb0 ha, iI_lt ha hb0, iI_lt hb0 ha] at q; omega) H locs ls hl hP hD hS) (fun q => kf (by simp only [GE.ge, GT.gt, iI_le ha hb0, iI_le hb0 ha, iI_lt ha hb0, iI_lt hb0 ha] at q; omega) H locs ls hl hP hD hS)
theorem jw_if_lt (F : FX l R D dA wf cc nL own G) (ha : Rg a) {off : Int} {tgt : Nat} (d : decode cc pc = .ok (.ifCond .lt off, 3)) (ht : (pc : Int) + off = (tgt : Int)) (kt : a < 0 → G σ tgt lv st) (kf : 0 ≤ a → G σ (pc + 3) lv st) : G σ pc lv (.int (iI a) :: st) := by
  obtain ⟨p, e, s, m, args, below, meth, c, Q, A, rfl, hx, hb, hml, hown, hts, hK, hN, hA⟩ := F
  intro H locs ls hl hP hD hS
  refine lv_if_lt hx hb d ht (fun q => kt (by simp only [GE.ge, GT.gt, iI_le0 ha, iI_0le ha, iI_lt0 ha, iI_0lt ha] at q; omega) H locs ls hl hP hD hS) (fun q => kf (by simp only [GE.ge, GT.gt, iI_le0 ha, iI_0le ha, iI_lt0 ha, iI_0lt ha] at q; omega) H locs ls hl hP hD hS)
theorem jw_icmp_ge (F : FX l R D dA wf cc nL own G) (ha : Rg a) (hb0 : Rg b) {off : Int} {tgt : Nat} (d : decode cc pc = .ok (.if_icmp .ge off, 3)) (ht : (pc : Int) + off = (tgt : Int)) (kt : b ≤ a → G σ tgt lv st) (kf : a < b → G σ (pc + 3) lv st) : G σ pc lv (.int (iI b) :: .int (iI a) :: st) := by
  obtain ⟨p, e, s, m, args, below, meth, c, Q, A, rfl, hx, hb, hml, hown, hts, hK, hN, hA⟩ := F
  intro H locs ls hl hP hD hS
  refine lv_icmp_ge hx hb d ht (fun q => kt (by simp only [GE.ge, GT.gt, iI_le ha hb0, iI_le hb0 ha, iI_lt ha hb0, iI_lt hb0 ha] at q; omega) H locs ls hl hP hD hS) (fun q => kf (by simp only [GE.ge, GT.gt, iI_le ha hb0, iI_le hb0 ha, iI_lt ha hb0, iI_lt hb0 ha] at q; omega) H locs ls hl hP hD hS)
theorem jw_if_ge (F : FX l R D dA wf cc nL own G) (ha : Rg a) {off : Int} {tgt : Nat} (d : decode cc pc = .ok (.ifCond .ge off, 3)) (ht : (pc : Int) + off = (tgt : Int)) (kt : 0 ≤ a → G σ tgt lv st) (kf : a < 0 → G σ (pc + 3) lv st) : G σ pc lv (.int (iI a) :: st) := by
  obtain ⟨p, e, s, m, args, below, meth, c, Q, A, rfl, hx, hb, hml, hown, hts, hK, hN, hA⟩ := F
  intro H locs ls hl hP hD hS
  refine lv_if_ge hx hb d ht (fun q => kt (by simp only [GE.ge, GT.gt, iI_le0 ha, iI_0le ha, iI_lt0 ha, iI_0lt ha] at q; omega) H locs ls hl hP hD hS) (fun q => kf (by simp only [GE.ge, GT.gt, iI_le0 ha, iI_0le ha, iI_lt0 ha, iI_0lt ha] at q; omega) H locs ls hl hP hD hS)
theorem jw_icmp_gt (F : FX l R D dA wf cc nL own G) (ha : Rg a) (hb0 : Rg b) {off : Int} {tgt : Nat} (d : decode cc pc = .ok (.if_icmp .gt off, 3)) (ht : (pc : Int) + off = (tgt : Int)) (kt : b < a → G σ tgt lv st) (kf : a ≤ b → G σ (pc + 3) lv st) : G σ pc lv (.int (iI b) :: .int (iI a) :: st) := by
  obtain ⟨p, e, s, m, args, below, meth, c, Q, A, rfl, hx, hb, hml, hown, hts, hK, hN, hA⟩ := F
  intro H locs ls hl hP hD hS
  refine lv_icmp_gt hx hb d ht (fun q => kt (by simp only [GE.ge, GT.gt, iI_le ha hb0, iI_le hb0 ha, iI_lt ha hb0, iI_lt hb0 ha] at q; omega) H locs ls hl hP hD hS) (fun q => kf (by simp only [GE.ge, GT.gt, iI_le ha hb0, iI_le hb0 ha, iI_lt ha hb0, iI_lt hb0 ha] at q; omega) H locs ls hl hP hD hS)
theorem jw_if_gt (F : FX l R D dA wf cc nL own G) (ha : Rg a) {off : Int} {tgt : Nat} (d : decode cc pc = .ok (.ifCond .gt off, 3)) (ht : (pc : Int) + off = (tgt : Int)) (kt : 0 < a → G σ tgt lv st) (kf : a ≤ 0 → G σ (pc + 3) lv st) : G σ pc lv (.int (iI a) :: st) := by
  obtain ⟨p, e, s, m, args, below, meth, c, Q, A, rfl, hx, hb, hml, hown, hts, hK, hN, hA⟩ := F
  intro H locs ls hl hP hD hS
  refine lv_if_gt hx hb d ht (fun q => kt (by simp only [GE.ge, GT.gt, iI_le0 ha, iI_0le ha, iI_lt0 ha, iI_0lt ha] at q; omega) H locs ls hl hP hD hS) (fun q => kf (by simp only [GE.ge, GT.gt, iI_le0 ha, iI_0le ha, iI_lt0 ha, iI_0lt ha] at q; omega) H locs ls hl hP hD hS)
theorem jw_icmp_le (F : FX l R D dA wf cc nL own G) (ha : Rg a) (hb0 : Rg b) {off : Int} {tgt : Nat} (d : decode cc pc = .ok (.if_icmp .le off, 3)) (ht : (pc : Int) + off = (tgt : Int)) (kt : a ≤ b → G σ tgt lv st) (kf : b < a → G σ (pc + 3) lv st) : G σ pc lv (.int (iI b) :: .int (iI a) :: st) := by
  obtain ⟨p, e, s, m, args, below, meth, c, Q, A, rfl, hx, hb, hml, hown, hts, hK, hN, hA⟩ := F
  intro H locs ls hl hP hD hS
  refine lv_icmp_le hx hb d ht (fun q => kt (by simp only [GE.ge, GT.gt, iI_le ha hb0, iI_le hb0 ha, iI_lt ha hb0, iI_lt hb0 ha] at q; omega) H locs ls hl hP hD hS) (fun q => kf (by simp only [GE.ge, GT.gt, iI_le ha hb0, iI_le hb0 ha, iI_lt ha hb0, iI_lt hb0 ha] at q; omega) H locs ls hl hP hD hS)
theorem jw_if_le (F : FX l R D dA wf cc nL own G) (ha : Rg a) {off : Int} {tgt : Nat} (d : decode cc pc = .ok (.ifCond .le off, 3)) (ht : (pc : Int) + off = (tgt : Int)) (kt : a ≤ 0 → G σ tgt lv st) (kf : 0 < a → G σ (pc + 3) lv st) : G σ pc lv (.int (iI a) :: st) := by
  obtain ⟨p, e, s, m, args, below, meth, c, Q, A, rfl, hx, hb, hml, hown, hts, hK, hN, hA⟩ := F
  intro H locs ls hl hP hD hS
  refine lv_if_le hx hb d ht (fun q => kt (by simp only [GE.ge, GT.gt, iI_le0 ha, iI_0le ha, iI_lt0 ha, iI_0lt ha] at q; omega) H locs ls hl hP hD hS) (fun q => kf (by simp only [GE.ge, GT.gt, iI_le0 ha, iI_0le ha, iI_lt0 ha, iI_0lt ha] at q; omega) H locs ls hl hP hD hS)
theorem jw_goto (F : FX l R D dA wf cc nL own G) {off : Int} {tgt : Nat} (d : decode cc pc = .ok (.goto off, 3)) (ht : (pc : Int) + off = (tgt : Int)) (k : G σ tgt lv st) : G σ pc lv st := by
  obtain ⟨p, e, s, m, args, below, meth, c, Q, A, rfl, hx, hb, hml, hown, hts, hK, hN, hA⟩ := F
  intro H locs ls hl hP hD hS
  exact lv_goto hx hb d ht (k H locs ls hl hP hD hS)
theorem jw_tableIn (F : FX l R D dA wf cc nL own G) (ha : Rg a) {dflt lo hi : Int} {offs : Array Int} {len : Nat} {off : Int} {tgt : Nat} (d : decode cc pc = .ok (.tableswitch dflt lo hi offs, len)) (h1 : lo ≤ a) (h2 : a ≤ hi) (ho : offs[(a - lo).toNat]? = some off) (ht : (pc : Int) + off = (tgt : Int)) (k : G σ tgt lv st) : G σ pc lv (.int (iI a) :: st) := by
  obtain ⟨p, e, s, m, args, below, meth, c, Q, A, rfl, hx, hb, hml, hown, hts, hK, hN, hA⟩ := F
  intro H locs ls hl hP hD hS
  exact lv_tableIn hx hb d (by rw [iI_toInt ha]; omega) (by rw [iI_toInt ha]; omega) (by rw [iI_toInt ha]; exact ho) ht (k H locs ls hl hP hD hS)
theorem jw_tableOut (F : FX l R D dA wf cc nL own G) (ha : Rg a) {dflt lo hi : Int} {offs : Array Int} {len : Nat} {tgt : Nat} (d : decode cc pc = .ok (.tableswitch dflt lo hi offs, len)) (h : a < lo ∨ hi < a) (ht : (pc : Int) + dflt = (tgt : Int)) (k : G σ tgt lv st) : G σ pc lv (.int (iI a) :: st) := by
  obtain ⟨p, e, s, m, args, below, meth, c, Q, A, rfl, hx, hb, hml, hown, hts, hK, hN, hA⟩ := F
  intro H locs ls hl hP hD hS
  exact lv_tableOut hx hb d (by rw [iI_toInt ha]; exact h) ht (k H locs ls hl hP hD hS)
/-- the world wf: cell k (k < N) stands at ad k, and holds mk k of its own numbers -/
def WFok (N : Nat) (ad : Nat → Nat) (mk : Nat → (Int → Int) → va_E) (wf : Sg → va_W) : Prop :=
  (∀ (σ : Sg) (k : Nat), k < N → (wf σ)[k]? = some (ad k, mk k (σ k))) ∧ ∀ (σ : Sg) (k : Nat) (v : Int → Int), k < N → (wf σ).set k (ad k, mk k v) = wf (va_up σ k v)
theorem jw_updI (v : Int → Int) {z x : Int} (h0 : 0 ≤ z) (h1 : z ≤ 2147483647) : upd (fun (j : Nat) => iI (v (j : Int))) (iI z).toNatClampNeg (iI x) = fun (j : Nat) => iI (upI v z x (j : Int)) := by
  funext j
  unfold upd upI
  rw [iI_clamp h0 h1]
  by_cases h : j = z.toNat
  · rw [if_pos h, if_pos (by omega)]
  · rw [if_neg h, if_neg (by omega)]
theorem jw_updL (v : Int → Int) {z x : Int} (h0 : 0 ≤ z) (h1 : z ≤ 2147483647) : vp_updL (fun (j : Nat) => lI (v (j : Int))) (iI z).toNatClampNeg (lI x) = fun (j : Nat) => lI (upI v z x (j : Int)) := by
  funext j
  unfold vp_updL upI
  rw [iI_clamp h0 h1]
  by_cases h : j = z.toNat
  · rw [if_pos h, if_pos (by omega)]
  · rw [if_neg h, if_neg (by omega)]
theorem jw_nat {z : Int} (h : 0 ≤ z) : ((z.toNat : Nat) : Int) = z := Int.toNat_of_nonneg h
end JW1
section JW2
variable {l : Launch} {R : Room} {D : va_G} {dA : Nat → ClassId} {wf : Sg → va_W} {cc : ByteArray} {nL : Nat} {own : String} {G : Gx} {σ : Sg} {pc : Nat} {lv : List (Nat × Value)} {st : List Value} {z x : Int} {N k n t0 : Nat} {ad : Nat → Nat} {mk : Nat → (Int → Int) → va_E} {cA : ClassId}
theorem jw_iald (F : FX l R D dA wf cc nL own G) (O : WFok N ad mk wf) (hk : k < N) (hm : ∀ v, mk k v = .inl (cA, n, .inl (fun (j : Nat) => iI (v (j : Int))))) (t0 : Nat) (ht : (jw_tys dA)[t0]? = some (cA, .int)) (hn : (n : Int) ≤ 2147483647) (h0 : 0 ≤ z) (h1 : z < n) (d : decode cc pc = .ok (.iaload, 1)) (kk : G σ (pc + 1) lv (.int (iI (σ k z)) :: st)) : G σ pc lv (.int (iI z) :: .ref (ad k) :: st) := by
  obtain ⟨p, e, s, m, args, below, meth, c, Q, A, rfl, hx, hb, hml, hown, hts, hK, hN, hA⟩ := F
  intro H locs ls hl hP hD hS
  have he := O.1 σ k hk
  rw [hm] at he
  refine va_iald hx hb hK hP k t0 he ht (iI_in h0 h1 hn) d ?_
  rw [iI_clamp h0 (by omega), jw_nat h0]
  exact kk H locs ls hl hP hD hS
theorem jw_bald (F : FX l R D dA wf cc nL own G) (O : WFok N ad mk wf) (hk : k < N) (hm : ∀ v, mk k v = .inl (cA, n, .inl (fun (j : Nat) => iI (v (j : Int))))) (t0 : Nat) (ht : (jw_tys dA)[t0]? = some (cA, .byte)) (hn : (n : Int) ≤ 2147483647) (h0 : 0 ≤ z) (h1 : z < n) (d : decode cc pc = .ok (.baload, 1)) (kk : G σ (pc + 1) lv (.int (iI (σ k z)) :: st)) : G σ pc lv (.int (iI z) :: .ref (ad k) :: st) := by
  obtain ⟨p, e, s, m, args, below, meth, c, Q, A, rfl, hx, hb, hml, hown, hts, hK, hN, hA⟩ := F
  intro H locs ls hl hP hD hS
  have he := O.1 σ k hk
  rw [hm] at he
  refine va_bald hx hb hK hP k t0 he ht (iI_in h0 h1 hn) d ?_
  rw [iI_clamp h0 (by omega), jw_nat h0]
  exact kk H locs ls hl hP hD hS
theorem jw_zald (F : FX l R D dA wf cc nL own G) (O : WFok N ad mk wf) (hk : k < N) (hm : ∀ v, mk k v = .inl (cA, n, .inl (fun (j : Nat) => iI (v (j : Int))))) (t0 : Nat) (ht : (jw_tys dA)[t0]? = some (cA, .boolean)) (hn : (n : Int) ≤ 2147483647) (h0 : 0 ≤ z) (h1 : z < n) (d : decode cc pc = .ok (.baload, 1)) (kk : G σ (pc + 1) lv (.int (iI (σ k z)) :: st)) : G σ pc lv (.int (iI z) :: .ref (ad k) :: st) := by
  obtain ⟨p, e, s, m, args, below, meth, c, Q, A, rfl, hx, hb, hml, hown, hts, hK, hN, hA⟩ := F
  intro H locs ls hl hP hD hS
  have he := O.1 σ k hk
  rw [hm] at he
  refine va_zald hx hb hK hP k t0 he ht (iI_in h0 h1 hn) d ?_
  rw [iI_clamp h0 (by omega), jw_nat h0]
  exact kk H locs ls hl hP hD hS
theorem jw_lald (F : FX l R D dA wf cc nL own G) (O : WFok N ad mk wf) (hk : k < N) (hm : ∀ v, mk k v = .inl (cA, n, .inr (.inl (fun (j : Nat) => lI (v (j : Int)))))) (t0 : Nat) (ht : (jw_tys dA)[t0]? = some (cA, .long)) (hn : (n : Int) ≤ 2147483647) (h0 : 0 ≤ z) (h1 : z < n) (d : decode cc pc = .ok (.laload, 1)) (kk : G σ (pc + 1) lv (.long (lI (σ k z)) :: st)) : G σ pc lv (.int (iI z) :: .ref (ad k) :: st) := by
  obtain ⟨p, e, s, m, args, below, meth, c, Q, A, rfl, hx, hb, hml, hown, hts, hK, hN, hA⟩ := F
  intro H locs ls hl hP hD hS
  have he := O.1 σ k hk
  rw [hm] at he
  refine va_lald hx hb hK hP k t0 he ht (iI_in h0 h1 hn) d ?_
  rw [iI_clamp h0 (by omega), jw_nat h0]
  exact kk H locs ls hl hP hD hS
theorem jw_iast (F : FX l R D dA wf cc nL own G) (O : WFok N ad mk wf) (hk : k < N) (hm : ∀ v, mk k v = .inl (cA, n, .inl (fun (j : Nat) => iI (v (j : Int))))) (t0 : Nat) (ht : (jw_tys dA)[t0]? = some (cA, .int)) (hn : (n : Int) ≤ 2147483647) (h0 : 0 ≤ z) (h1 : z < n) (d : decode cc pc = .ok (.iastore, 1)) (kk : G (up σ k z x) (pc + 1) lv st) : G σ pc lv (.int (iI x) :: .int (iI z) :: .ref (ad k) :: st) := by
  obtain ⟨p, e, s, m, args, below, meth, c, Q, A, rfl, hx, hb, hml, hown, hts, hK, hN, hA⟩ := F
  intro H locs ls hl hP hD hS
  have he := O.1 σ k hk
  rw [hm] at he
  refine va_iast hx hb hK hP hD hS k t0 he ht (iI_in h0 h1 hn) d fun H1 locs1 hP1 hD1 hS1 => ?_
  have e := O.2 σ k (upI (σ k) z x) hk
  rw [hm, ← jw_updI (σ k) h0 (by omega), ← up_e] at e
  rw [e] at hP1 hD1
  exact kk H1 locs1 ls hl hP1 hD1 hS1
theorem jw_bast (F : FX l R D dA wf cc nL own G) (O : WFok N ad mk wf) (hk : k < N) (hm : ∀ v, mk k v = .inl (cA, n, .inl (fun (j : Nat) => iI (v (j : Int))))) (t0 : Nat) (ht : (jw_tys dA)[t0]? = some (cA, .byte)) (hn : (n : Int) ≤ 2147483647) (h0 : 0 ≤ z) (h1 : z < n) (hx0 : 0 ≤ x) (hx1 : x ≤ 127) (d : decode cc pc = .ok (.bastore, 1)) (kk : G (up σ k z x) (pc + 1) lv st) : G σ pc lv (.int (iI x) :: .int (iI z) :: .ref (ad k) :: st) := by
  obtain ⟨p, e, s, m, args, below, meth, c, Q, A, rfl, hx, hb, hml, hown, hts, hK, hN, hA⟩ := F
  intro H locs ls hl hP hD hS
  have he := O.1 σ k hk
  rw [hm] at he
  refine va_bast hx hb hK hP hD hS k t0 he ht (iI_in h0 h1 hn) d fun H1 locs1 hP1 hD1 hS1 => ?_
  rw [vp_nar_byte, iI_i2b hx0 hx1] at hP1 hD1
  have e := O.2 σ k (upI (σ k) z x) hk
  rw [hm, ← jw_updI (σ k) h0 (by omega), ← up_e] at e
  rw [e] at hP1 hD1
  exact kk H1 locs1 ls hl hP1 hD1 hS1
theorem jw_zast (F : FX l R D dA wf cc nL own G) (O : WFok N ad mk wf) (hk : k < N) (hm : ∀ v, mk k v = .inl (cA, n, .inl (fun (j : Nat) => iI (v (j : Int))))) (t0 : Nat) (ht : (jw_tys dA)[t0]? = some (cA, .boolean)) (hn : (n : Int) ≤ 2147483647) (h0 : 0 ≤ z) (h1 : z < n) (hx0 : x = 0 ∨ x = 1) (d : decode cc pc = .ok (.bastore, 1)) (kk : G (up σ k z x) (pc + 1) lv st) : G σ pc lv (.int (iI x) :: .int (iI z) :: .ref (ad k) :: st) := by
  obtain ⟨p, e, s, m, args, below, meth, c, Q, A, rfl, hx, hb, hml, hown, hts, hK, hN, hA⟩ := F
  intro H locs ls hl hP hD hS
  have he := O.1 σ k hk
  rw [hm] at he
  refine va_zast hx hb hK hP hD hS k t0 he ht (iI_in h0 h1 hn) d fun H1 locs1 hP1 hD1 hS1 => ?_
  rw [show vp_nar .boolean (iI x) = iI x by rcases hx0 with rfl | rfl <;> rfl] at hP1 hD1
  have e := O.2 σ k (upI (σ k) z x) hk
  rw [hm, ← jw_updI (σ k) h0 (by omega), ← up_e] at e
  rw [e] at hP1 hD1
  exact kk H1 locs1 ls hl hP1 hD1 hS1
theorem jw_last (F : FX l R D dA wf cc nL own G) (O : WFok N ad mk wf) (hk : k < N) (hm : ∀ v, mk k v = .inl (cA, n, .inr (.inl (fun (j : Nat) => lI (v (j : Int)))))) (t0 : Nat) (ht : (jw_tys dA)[t0]? = some (cA, .long)) (hn : (n : Int) ≤ 2147483647) (h0 : 0 ≤ z) (h1 : z < n) (d : decode cc pc = .ok (.lastore, 1)) (kk : G (up σ k z x) (pc + 1) lv st) : G σ pc lv (.long (lI x) :: .int (iI z) :: .ref (ad k) :: st) := by
  obtain ⟨p, e, s, m, args, below, meth, c, Q, A, rfl, hx, hb, hml, hown, hts, hK, hN, hA⟩ := F
  intro H locs ls hl hP hD hS
  have he := O.1 σ k hk
  rw [hm] at he
  refine va_last hx hb hK hP hD hS k t0 he ht (iI_in h0 h1 hn) d fun H1 locs1 hP1 hD1 hS1 => ?_
  have e := O.2 σ k (upI (σ k) z x) hk
  rw [hm, ← jw_updL (σ k) h0 (by omega), ← up_e] at e
  rw [e] at hP1 hD1
  exact kk H1 locs1 ls hl hP1 hD1 hS1
theorem jw_aald (F : FX l R D dA wf cc nL own G) (O : WFok N ad mk wf) (hk : k < N) {rf : Nat → Nat} (hm : ∀ v, mk k v = .inl (cA, n, .inr (.inr (.inr (.inr (fun j => some (rf j))))))) (t0 : Nat) {ty : FieldType} (ht : (jw_tys dA)[t0]? = some (cA, ty)) (hty : ty.isReference = true) (hn : (n : Int) ≤ 2147483647) (h0 : 0 ≤ z) (h1 : z < n) (d : decode cc pc = .ok (.aaload, 1)) (kk : G σ (pc + 1) lv (.ref (rf z.toNat) :: st)) : G σ pc lv (.int (iI z) :: .ref (ad k) :: st) := by
  obtain ⟨p, e, s, m, args, below, meth, c, Q, A, rfl, hx, hb, hml, hown, hts, hK, hN, hA⟩ := F
  intro H locs ls hl hP hD hS
  have he := O.1 σ k hk
  rw [hm] at he
  have hin := iI_in h0 h1 hn
  have hlt : (iI z).toNatClampNeg < n := Nat.not_le.mp fun q => hin (Or.inr q)
  have hz : (iI z).toNatClampNeg = z.toNat := iI_clamp h0 (by omega)
  refine W.aald (v := .ref (rf z.toNat)) (ty := ty) hx hb (hP k _ he) ((hK.2 t0 _ ht).1 n (fun j => va_rf (some (rf j)))) hty (fun q => by cases q) (by show ¬ (iI z < 0 ∨ (arrV _ _ _).slots.size ≤ _); rw [arrV_size]; exact hin) (by show (arrV _ _ _).slots[_]? = _; rw [arrV_read _ _ hlt, hz]; rfl) rfl rfl d (kk H locs ls hl hP hD hS)
theorem jw_alen (F : FX l R D dA wf cc nL own G) (O : WFok N ad mk wf) (hk : k < N) {y : (Int → Int) → _} (hm : ∀ v, mk k v = .inl (cA, n, y v)) (t0 : Nat) {ty : FieldType} (ht : (jw_tys dA)[t0]? = some (cA, ty)) (d : decode cc pc = .ok (.arraylength, 1)) (kk : G σ (pc + 1) lv (.int (iI (n : Int)) :: st)) : G σ pc lv (.ref (ad k) :: st) := by
  obtain ⟨p, e, s, m, args, below, meth, c, Q, A, rfl, hx, hb, hml, hown, hts, hK, hN, hA⟩ := F
  intro H locs ls hl hP hD hS
  have he := O.1 σ k hk
  rw [hm] at he
  exact va_alen (v := iI (n : Int)) hx hb hK hP k t0 he ht rfl d (kk H locs ls hl hP hD hS)
theorem jw_get (F : FX l R D dA wf cc nL own G) {ref C : String} {T : u_T} {M ci index q0 a : Nat} {fs : List Value} {v : Value} (hin : ∀ w ∈ u_ws C T M, w ∈ lw_all) (he : (wf σ)[q0]? = some (a, .inr (ci, fs))) (hc : jw_cl[ci]? = some (C, T, M)) (j : Nat) (hj : j < M) (hlink : Jvm.Cond.fieldLink own index ref (T j).2.1 (T j).2.2.1 ∈ lw_all) (href : ref = (T j).1) (hv : fs[j]? = some v) (d : decode cc pc = .ok (.getfield index, 3)) (kk : G σ (pc + 3) lv (v :: st)) : G σ pc lv (.ref a :: st) := by
  obtain ⟨p, e, s, m, args, below, meth, c, Q, A, rfl, hx, hb, hml, hown, hts, hK, hN, hA⟩ := F
  intro H locs ls hl hP hD hS
  subst href
  exact va_get (D := D) (ci := ci) (v := v) (C := C) (T := T) (N := M) hx hb hts hin hown hK hP q0 he hc j hj (hts _ hlink) (fun _ h9 => h9) hv d (kk H locs ls hl hP hD hS)
theorem jw_put (F : FX l R D dA wf cc nL own G) {ref C : String} {T : u_T} {ty : Nat → FieldType} {M ci index q0 a : Nat} {fs : List Value} {v : Value} {σ' : Sg} (hin : ∀ w ∈ u_ws C T M, w ∈ lw_all) (hty : ∀ k, k < M → parseFieldDescriptor (T k).2.2.1 = some (ty k)) (hnm : ∀ a, a < M → ∀ b, b < M → a ≠ b → (T a).2.1 ≠ (T b).2.1) (he : (wf σ)[q0]? = some (a, .inr (ci, fs))) (hc : jw_cl[ci]? = some (C, T, M)) (j : Nat) (hj : j < M) (hlink : Jvm.Cond.fieldLink own index ref (T j).2.1 (T j).2.2.1 ∈ lw_all) (href : ref = (T j).1) (hfin : (T j).2.2.2 = false) (hn : narrow (ty j) v = v) (hfit : fits (ty j) v = true) (hlen : j < fs.length) (hset : (wf σ).set q0 (a, .inr (ci, fs.set j v)) = wf σ') (d : decode cc pc = .ok (.putfield index, 3)) (kk : G σ' (pc + 3) lv st) : G σ pc lv (v :: .ref a :: st) := by
  obtain ⟨p, e, s, m, args, below, meth, c, Q, A, rfl, hx, hb, hml, hown, hts, hK, hN, hA⟩ := F
  intro H locs ls hl hP hD hS
  subst href
  refine va_put (D := D) (ci := ci) (v := v) (ty := ty j) (C := C) (T := T) (N := M) hx hb hts hin ty hty hnm hown hK hP hD hS q0 he hc j hj (hts _ hlink) (fun _ h9 => h9) hfin (hty j hj) hn hfit hlen d (fun H1 locs1 hP1 hD1 hS1 => ?_)
  rw [hset] at hP1 hD1
  exact kk H1 locs1 ls hl hP1 hD1 hS1
theorem jw_getN (F : FX l R D dA wf cc nL own G) {ref C : String} {T : u_T} {M ci index q0 a : Nat} {fs : List Value} {v : Value} (hin : ∀ w ∈ u_ws C T M, w ∈ lw_all) (he : (wf σ)[q0]? = some (a, .inr (ci, fs))) (hc : jw_cl[ci]? = some (C, T, M)) (j : Nat) (hj : j < M) {host : String} (hlink : Jvm.Cond.fieldLinkNest own index ref (T j).2.1 (T j).2.2.1 host ∈ jw_nw) (href : ref = (T j).1) (hv : fs[j]? = some v) (d : decode cc pc = .ok (.getfield index, 3)) (kk : G σ (pc + 3) lv (v :: st)) : G σ pc lv (.ref a :: st) := by
  obtain ⟨p, e, s, m, args, below, meth, c, Q, A, rfl, hx, hb, hml, hown, hts, hK, hN, hA⟩ := F
  intro H locs ls hl hP hD hS
  subst href
  exact va_getN (D := D) (ci := ci) (v := v) (C := C) (T := T) (N := M) hx hb hts hin hown hK hP q0 he hc j hj (jw_nwF hN hlink) (fun _ h9 => h9) hv d (kk H locs ls hl hP hD hS)
theorem jw_putN (F : FX l R D dA wf cc nL own G) {ref C : String} {T : u_T} {ty : Nat → FieldType} {M ci index q0 a : Nat} {fs : List Value} {v : Value} {σ' : Sg} (hin : ∀ w ∈ u_ws C T M, w ∈ lw_all) (hty : ∀ k, k < M → parseFieldDescriptor (T k).2.2.1 = some (ty k)) (hnm : ∀ a, a < M → ∀ b, b < M → a ≠ b → (T a).2.1 ≠ (T b).2.1) (he : (wf σ)[q0]? = some (a, .inr (ci, fs))) (hc : jw_cl[ci]? = some (C, T, M)) (j : Nat) (hj : j < M) {host : String} (hlink : Jvm.Cond.fieldLinkNest own index ref (T j).2.1 (T j).2.2.1 host ∈ jw_nw) (href : ref = (T j).1) (hfin : (T j).2.2.2 = false) (hn : narrow (ty j) v = v) (hfit : fits (ty j) v = true) (hlen : j < fs.length) (hset : (wf σ).set q0 (a, .inr (ci, fs.set j v)) = wf σ') (d : decode cc pc = .ok (.putfield index, 3)) (kk : G σ' (pc + 3) lv st) : G σ pc lv (v :: .ref a :: st) := by
  obtain ⟨p, e, s, m, args, below, meth, c, Q, A, rfl, hx, hb, hml, hown, hts, hK, hN, hA⟩ := F
  intro H locs ls hl hP hD hS
  subst href
  refine va_putN (D := D) (ci := ci) (v := v) (ty := ty j) (C := C) (T := T) (N := M) hx hb hts hin ty hty hnm hown hK hP hD hS q0 he hc j hj (jw_nwF hN hlink) (fun _ h9 => h9) hfin (hty j hj) hn hfit hlen d (fun H1 locs1 hP1 hD1 hS1 => ?_)
  rw [hset] at hP1 hD1
  exact kk H1 locs1 ls hl hP1 hD1 hS1
theorem jw_blind {as : List Value} {A : Nat → Prop} : FrameBlind (va_Pc as (jw_pre D dA wf A σ)) := fun a U g mk q => by
  obtain ⟨q0, qP, qD, qK, qN, qA⟩ := q
  exact ⟨q0, qP, qD, va_K.moved (u := U) (U := U.calling g mk a) (Vm.Alike.refl U.vm) qK, jw_NW.same (u := U) (U := U.calling g mk a) rfl qN, qA⟩
theorem jw_entry {as : List Value} {A : Nat → Prop} {s U : State} {H : Heap} {locs : List Loc} (hP : va_P D jw_cl (wf σ) H) (hD : va_D A (wf σ)) (hS : va_S A s.heap H locs) (hK : va_K D jw_cl (jw_tys dA) s) (hN : jw_NW s) (hA : ∀ q, s.heap.size ≤ q → A q) (hU : U.heap = H) (hW : s.WarmedH U.vm) : va_Pc as (jw_pre D dA wf A σ) as.toArray U :=
  ⟨rfl, by rw [hU]; exact hP, hD, va_K.moved hW.alike hK, jw_NW.warm hW hN, fun q h => hA q (Nat.le_trans hS.1 (by rw [← hU]; exact h))⟩
theorem jw_callVi (F : FX l R D dA wf cc nL own G) {y : MethodName} {cc' : ByteArray} {nL' index n q0 ci b : Nat} {C : String} {ret : FieldType} {rm : Room} {as As rest st0 : List Value} {Qz : Int → Sg → Prop} (hM : MXi l D dA wf y cc' nL' ret rm as σ Qz) (hg : GoodIn lw_all (wsV own index C y (ws_ y cc' nL' (some ret)))) (hd : y.cls = C ∧ y.cls ≠ "java/lang/invoke/MethodHandle" ∧ y.cls ≠ "java/lang/invoke/VarHandle" ∧ (parseMethodDescriptor y.desc).map (fun d => d.parameters.length) = some n) (hrm : rm.cells = 0 ∧ rm.slots = 0 ∧ rm.frames + 1 ≤ R.frames ∧ 8 + (nL' + 11) + rm.locals ≤ R.locals) {q : vw_C} {fs : List Value} (hc : jw_cl[ci]? = some q) (hq : q.1 = C) (he : (wf σ)[q0]? = some (b, .inr (ci, fs))) (has : as = .ref b :: As)  (hst : st0 = As.reverse ++ .ref b :: rest) (hn : As.length = n) (hW : (rest.map fun v => v.category).sum ≤ 8) (d : decode cc pc = .ok (.invokevirtual index, 3)) (kk : ∀ z σ', Qz z σ' → G σ' (pc + 3) lv (.int (iI z) :: rest)) : G σ pc lv st0 := by
  obtain ⟨p, e, s, m, args, below, meth, c, Q, A, rfl, hx, hb, hml, hown, hts, hK, hN, hA⟩ := F
  intro H locs ls hl hP hD hS
  subst has
  refine va_calli (va_runV (As := As) (rest := rest) ⟨hx, hb, hml, hown, hts⟩ (hM A) (cwV n hts hg rfl hrm.1 hrm.2.1 hd ⟨hrm.2.2.1, hrm.2.2.2⟩) ⟨jw_blind, by rw [← hq]; exact va_recv hK hP hc he, fun U hU hW => jw_entry hP hD hS hK hN hA hU hW⟩ rfl hn hl.1 hst (lv_room hW) d ⟨Nat.zero_le _, Nat.zero_le _⟩) hS (fun q _ h => h) (fun q h => h) ?_
  intro r u t H1 locs1 ht hvm hw hB hz1 hk1 hS1
  obtain ⟨rfl, hw⟩ := hw
  subst ht
  exact kk u.1 u.2 hw _ locs1 ls hl hB.1 hB.2 hS1
theorem jw_callVl (F : FX l R D dA wf cc nL own G) {y : MethodName} {cc' : ByteArray} {nL' index n q0 ci b : Nat} {C : String} {rm : Room} {as As rest st0 : List Value} {Qz : Int → Sg → Prop} (hM : MXl l D dA wf y cc' nL' rm as σ Qz) (hg : GoodIn lw_all (wsV own index C y (ws_ y cc' nL' (some .long)))) (hd : y.cls = C ∧ y.cls ≠ "java/lang/invoke/MethodHandle" ∧ y.cls ≠ "java/lang/invoke/VarHandle" ∧ (parseMethodDescriptor y.desc).map (fun d => d.parameters.length) = some n) (hrm : rm.cells = 0 ∧ rm.slots = 0 ∧ rm.frames + 1 ≤ R.frames ∧ 8 + (nL' + 11) + rm.locals ≤ R.locals) {q : vw_C} {fs : List Value} (hc : jw_cl[ci]? = some q) (hq : q.1 = C) (he : (wf σ)[q0]? = some (b, .inr (ci, fs))) (has : as = .ref b :: As)  (hst : st0 = As.reverse ++ .ref b :: rest) (hn : As.length = n) (hW : (rest.map fun v => v.category).sum ≤ 8) (d : decode cc pc = .ok (.invokevirtual index, 3)) (kk : ∀ z σ', Qz z σ' → G σ' (pc + 3) lv (.long (lI z) :: rest)) : G σ pc lv st0 := by
  obtain ⟨p, e, s, m, args, below, meth, c, Q, A, rfl, hx, hb, hml, hown, hts, hK, hN, hA⟩ := F
  intro H locs ls hl hP hD hS
  subst has
  refine va_calll (va_runV (As := As) (rest := rest) ⟨hx, hb, hml, hown, hts⟩ (hM A) (cwV n hts hg rfl hrm.1 hrm.2.1 hd ⟨hrm.2.2.1, hrm.2.2.2⟩) ⟨jw_blind, by rw [← hq]; exact va_recv hK hP hc he, fun U hU hW => jw_entry hP hD hS hK hN hA hU hW⟩ rfl hn hl.1 hst (lv_room hW) d ⟨Nat.zero_le _, Nat.zero_le _⟩) hS (fun q _ h => h) (fun q h => h) ?_
  intro r u t H1 locs1 ht hvm hw hB hz1 hk1 hS1
  obtain ⟨rfl, hw⟩ := hw
  subst ht
  exact kk u.1 u.2 hw _ locs1 ls hl hB.1 hB.2 hS1
theorem jw_callVv (F : FX l R D dA wf cc nL own G) {y : MethodName} {cc' : ByteArray} {nL' index n q0 ci b : Nat} {C : String} {rm : Room} {as As rest st0 : List Value} {Qv : Sg → Prop} (hM : MXv l D dA wf y cc' nL' rm as σ Qv) (hg : GoodIn lw_all (wsV own index C y (ws_ y cc' nL' none))) (hd : y.cls = C ∧ y.cls ≠ "java/lang/invoke/MethodHandle" ∧ y.cls ≠ "java/lang/invoke/VarHandle" ∧ (parseMethodDescriptor y.desc).map (fun d => d.parameters.length) = some n) (hrm : rm.cells = 0 ∧ rm.slots = 0 ∧ rm.frames + 1 ≤ R.frames ∧ 8 + (nL' + 11) + rm.locals ≤ R.locals) {q : vw_C} {fs : List Value} (hc : jw_cl[ci]? = some q) (hq : q.1 = C) (he : (wf σ)[q0]? = some (b, .inr (ci, fs))) (has : as = .ref b :: As)  (hst : st0 = As.reverse ++ .ref b :: rest) (hn : As.length = n) (hW : (rest.map fun v => v.category).sum ≤ 8) (d : decode cc pc = .ok (.invokevirtual index, 3)) (kk : ∀ σ', Qv σ' → G σ' (pc + 3) lv rest) : G σ pc lv st0 := by
  obtain ⟨p, e, s, m, args, below, meth, c, Q, A, rfl, hx, hb, hml, hown, hts, hK, hN, hA⟩ := F
  intro H locs ls hl hP hD hS
  subst has
  refine va_callv (va_runV (As := As) (rest := rest) ⟨hx, hb, hml, hown, hts⟩ (hM A) (cwV n hts hg rfl hrm.1 hrm.2.1 hd ⟨hrm.2.2.1, hrm.2.2.2⟩) ⟨jw_blind, by rw [← hq]; exact va_recv hK hP hc he, fun U hU hW => jw_entry hP hD hS hK hN hA hU hW⟩ rfl hn hl.1 hst (lv_room hW) d ⟨Nat.zero_le _, Nat.zero_le _⟩) hS (fun q _ h => h) (fun q h => h) ?_
  intro u t H1 locs1 ht hvm hw hB hz1 hk1 hS1
  subst ht
  exact kk u hw _ locs1 ls hl hB.1 hB.2 hS1
theorem jw_callSi (F : FX l R D dA wf cc nL own G) {y : MethodName} {cc' : ByteArray} {nL' index n : Nat} {ret : FieldType} {rm : Room} {As rest st0 : List Value} {Qz : Int → Sg → Prop} (hM : MXi l D dA wf y cc' nL' ret rm As σ Qz) (hg : GoodIn lw_all (va_wsS own index y (ws_ y cc' nL' (some ret)))) (hd : y.cls ≠ "java/lang/invoke/MethodHandle" ∧ y.cls ≠ "java/lang/invoke/VarHandle" ∧ (parseMethodDescriptor y.desc).map (fun d => d.parameters.length) = some n) (hrm : rm.cells = 0 ∧ rm.slots = 0 ∧ rm.frames + 1 ≤ R.frames ∧ 8 + (nL' + 11) + rm.locals ≤ R.locals)  (hst : st0 = As.reverse ++ rest) (hn : As.length = n) (hW : (rest.map fun v => v.category).sum ≤ 8) (d : decode cc pc = .ok (.invokestatic index, 3)) (kk : ∀ z σ', Qz z σ' → G σ' (pc + 3) lv (.int (iI z) :: rest)) : G σ pc lv st0 := by
  obtain ⟨p, e, s, m, args, below, meth, c, Q, A, rfl, hx, hb, hml, hown, hts, hK, hN, hA⟩ := F
  intro H locs ls hl hP hD hS
  refine va_calli (va_runS (As := As) (rest := rest) ⟨hx, hb, hml, hown, hts⟩ (hM A) (va_cwS n hts hg rfl hrm.1 hrm.2.1 hd ⟨hrm.2.2.1, hrm.2.2.2⟩) ⟨jw_blind, fun U hU hW => jw_entry hP hD hS hK hN hA hU hW⟩ rfl hn hl.1 hst (lv_room hW) d ⟨Nat.zero_le _, Nat.zero_le _⟩) hS (fun q _ h => h) (fun q h => h) ?_
  intro r u t H1 locs1 ht hvm hw hB hz1 hk1 hS1
  obtain ⟨rfl, hw⟩ := hw
  subst ht
  exact kk u.1 u.2 hw _ locs1 ls hl hB.1 hB.2 hS1
theorem jw_callSl (F : FX l R D dA wf cc nL own G) {y : MethodName} {cc' : ByteArray} {nL' index n : Nat} {rm : Room} {As rest st0 : List Value} {Qz : Int → Sg → Prop} (hM : MXl l D dA wf y cc' nL' rm As σ Qz) (hg : GoodIn lw_all (va_wsS own index y (ws_ y cc' nL' (some .long)))) (hd : y.cls ≠ "java/lang/invoke/MethodHandle" ∧ y.cls ≠ "java/lang/invoke/VarHandle" ∧ (parseMethodDescriptor y.desc).map (fun d => d.parameters.length) = some n) (hrm : rm.cells = 0 ∧ rm.slots = 0 ∧ rm.frames + 1 ≤ R.frames ∧ 8 + (nL' + 11) + rm.locals ≤ R.locals)  (hst : st0 = As.reverse ++ rest) (hn : As.length = n) (hW : (rest.map fun v => v.category).sum ≤ 8) (d : decode cc pc = .ok (.invokestatic index, 3)) (kk : ∀ z σ', Qz z σ' → G σ' (pc + 3) lv (.long (lI z) :: rest)) : G σ pc lv st0 := by
  obtain ⟨p, e, s, m, args, below, meth, c, Q, A, rfl, hx, hb, hml, hown, hts, hK, hN, hA⟩ := F
  intro H locs ls hl hP hD hS
  refine va_calll (va_runS (As := As) (rest := rest) ⟨hx, hb, hml, hown, hts⟩ (hM A) (va_cwS n hts hg rfl hrm.1 hrm.2.1 hd ⟨hrm.2.2.1, hrm.2.2.2⟩) ⟨jw_blind, fun U hU hW => jw_entry hP hD hS hK hN hA hU hW⟩ rfl hn hl.1 hst (lv_room hW) d ⟨Nat.zero_le _, Nat.zero_le _⟩) hS (fun q _ h => h) (fun q h => h) ?_
  intro r u t H1 locs1 ht hvm hw hB hz1 hk1 hS1
  obtain ⟨rfl, hw⟩ := hw
  subst ht
  exact kk u.1 u.2 hw _ locs1 ls hl hB.1 hB.2 hS1
theorem jw_callSv (F : FX l R D dA wf cc nL own G) {y : MethodName} {cc' : ByteArray} {nL' index n : Nat} {rm : Room} {As rest st0 : List Value} {Qv : Sg → Prop} (hM : MXv l D dA wf y cc' nL' rm As σ Qv) (hg : GoodIn lw_all (va_wsS own index y (ws_ y cc' nL' none))) (hd : y.cls ≠ "java/lang/invoke/MethodHandle" ∧ y.cls ≠ "java/lang/invoke/VarHandle" ∧ (parseMethodDescriptor y.desc).map (fun d => d.parameters.length) = some n) (hrm : rm.cells = 0 ∧ rm.slots = 0 ∧ rm.frames + 1 ≤ R.frames ∧ 8 + (nL' + 11) + rm.locals ≤ R.locals)  (hst : st0 = As.reverse ++ rest) (hn : As.length = n) (hW : (rest.map fun v => v.category).sum ≤ 8) (d : decode cc pc = .ok (.invokestatic index, 3)) (kk : ∀ σ', Qv σ' → G σ' (pc + 3) lv rest) : G σ pc lv st0 := by
  obtain ⟨p, e, s, m, args, below, meth, c, Q, A, rfl, hx, hb, hml, hown, hts, hK, hN, hA⟩ := F
  intro H locs ls hl hP hD hS
  refine va_callv (va_runS (As := As) (rest := rest) ⟨hx, hb, hml, hown, hts⟩ (hM A) (va_cwS n hts hg rfl hrm.1 hrm.2.1 hd ⟨hrm.2.2.1, hrm.2.2.2⟩) ⟨jw_blind, fun U hU hW => jw_entry hP hD hS hK hN hA hU hW⟩ rfl hn hl.1 hst (lv_room hW) d ⟨Nat.zero_le _, Nat.zero_le _⟩) hS (fun q _ h => h) (fun q h => h) ?_
  intro u t H1 locs1 ht hvm hw hB hz1 hk1 hS1
  subst ht
  exact kk u hw _ locs1 ls hl hB.1 hB.2 hS1
theorem jw_callVip (F : FX l R D dA wf cc nL own G) {y : MethodName} {cc' : ByteArray} {nL' index n q0 ci b : Nat} {C : String} {ret : FieldType} {rm : Room} {as As rest st0 : List Value} {Qp : Int → Prop} (hM : MXi l D dA wf y cc' nL' ret rm as σ (fun z s9 => s9 = σ ∧ Qp z)) (hg : GoodIn lw_all (wsV own index C y (ws_ y cc' nL' (some ret)))) (hd : y.cls = C ∧ y.cls ≠ "java/lang/invoke/MethodHandle" ∧ y.cls ≠ "java/lang/invoke/VarHandle" ∧ (parseMethodDescriptor y.desc).map (fun d => d.parameters.length) = some n) (hrm : rm.cells = 0 ∧ rm.slots = 0 ∧ rm.frames + 1 ≤ R.frames ∧ 8 + (nL' + 11) + rm.locals ≤ R.locals) {q : vw_C} {fs : List Value} (hc : jw_cl[ci]? = some q) (hq : q.1 = C) (he : (wf σ)[q0]? = some (b, .inr (ci, fs))) (has : as = .ref b :: As)  (hst : st0 = As.reverse ++ .ref b :: rest) (hn : As.length = n) (hW : (rest.map fun v => v.category).sum ≤ 8) (d : decode cc pc = .ok (.invokevirtual index, 3)) (kk : ∀ z, Qp z → G σ (pc + 3) lv (.int (iI z) :: rest)) : G σ pc lv st0 := jw_callVi F hM hg hd hrm hc hq he has hst hn hW d (fun z s9 hz => by rw [hz.1]; exact kk z hz.2)
theorem jw_callVzp (F : FX l R D dA wf cc nL own G) {y : MethodName} {cc' : ByteArray} {nL' index n q0 ci b : Nat} {C : String} {ret : FieldType} {rm : Room} {as As rest st0 : List Value} {Qp : Int → Prop} (hM : MXi l D dA wf y cc' nL' ret rm as σ (fun z s9 => (z = 0 ∨ z = 1) ∧ s9 = σ ∧ Qp z)) (hg : GoodIn lw_all (wsV own index C y (ws_ y cc' nL' (some ret)))) (hd : y.cls = C ∧ y.cls ≠ "java/lang/invoke/MethodHandle" ∧ y.cls ≠ "java/lang/invoke/VarHandle" ∧ (parseMethodDescriptor y.desc).map (fun d => d.parameters.length) = some n) (hrm : rm.cells = 0 ∧ rm.slots = 0 ∧ rm.frames + 1 ≤ R.frames ∧ 8 + (nL' + 11) + rm.locals ≤ R.locals) {q : vw_C} {fs : List Value} (hc : jw_cl[ci]? = some q) (hq : q.1 = C) (he : (wf σ)[q0]? = some (b, .inr (ci, fs))) (has : as = .ref b :: As)  (hst : st0 = As.reverse ++ .ref b :: rest) (hn : As.length = n) (hW : (rest.map fun v => v.category).sum ≤ 8) (d : decode cc pc = .ok (.invokevirtual index, 3)) (kk : ∀ z, (z = 0 ∨ z = 1) → Qp z → G σ (pc + 3) lv (.int (iI z) :: rest)) : G σ pc lv st0 := jw_callVi F hM hg hd hrm hc hq he has hst hn hW d (fun z s9 hz => by rw [hz.2.1]; exact kk z hz.1 hz.2.2)
theorem jw_callVlp (F : FX l R D dA wf cc nL own G) {y : MethodName} {cc' : ByteArray} {nL' index n q0 ci b : Nat} {C : String} {rm : Room} {as As rest st0 : List Value} {Qp : Int → Prop} (hM : MXl l D dA wf y cc' nL' rm as σ (fun z s9 => s9 = σ ∧ Qp z)) (hg : GoodIn lw_all (wsV own index C y (ws_ y cc' nL' (some .long)))) (hd : y.cls = C ∧ y.cls ≠ "java/lang/invoke/MethodHandle" ∧ y.cls ≠ "java/lang/invoke/VarHandle" ∧ (parseMethodDescriptor y.desc).map (fun d => d.parameters.length) = some n) (hrm : rm.cells = 0 ∧ rm.slots = 0 ∧ rm.frames + 1 ≤ R.frames ∧ 8 + (nL' + 11) + rm.locals ≤ R.locals) {q : vw_C} {fs : List Value} (hc : jw_cl[ci]? = some q) (hq : q.1 = C) (he : (wf σ)[q0]? = some (b, .inr (ci, fs))) (has : as = .ref b :: As)  (hst : st0 = As.reverse ++ .ref b :: rest) (hn : As.length = n) (hW : (rest.map fun v => v.category).sum ≤ 8) (d : decode cc pc = .ok (.invokevirtual index, 3)) (kk : ∀ z, Qp z → G σ (pc + 3) lv (.long (lI z) :: rest)) : G σ pc lv st0 := jw_callVl F hM hg hd hrm hc hq he has hst hn hW d (fun z s9 hz => by rw [hz.1]; exact kk z hz.2)
theorem jw_callSip (F : FX l R D dA wf cc nL own G) {y : MethodName} {cc' : ByteArray} {nL' index n : Nat} {ret : FieldType} {rm : Room} {As rest st0 : List Value} {Qp : Int → Prop} (hM : MXi l D dA wf y cc' nL' ret rm As σ (fun z s9 => s9 = σ ∧ Qp z)) (hg : GoodIn lw_all (va_wsS own index y (ws_ y cc' nL' (some ret)))) (hd : y.cls ≠ "java/lang/invoke/MethodHandle" ∧ y.cls ≠ "java/lang/invoke/VarHandle" ∧ (parseMethodDescriptor y.desc).map (fun d => d.parameters.length) = some n) (hrm : rm.cells = 0 ∧ rm.slots = 0 ∧ rm.frames + 1 ≤ R.frames ∧ 8 + (nL' + 11) + rm.locals ≤ R.locals)  (hst : st0 = As.reverse ++ rest) (hn : As.length = n) (hW : (rest.map fun v => v.category).sum ≤ 8) (d : decode cc pc = .ok (.invokestatic index, 3)) (kk : ∀ z, Qp z → G σ (pc + 3) lv (.int (iI z) :: rest)) : G σ pc lv st0 := jw_callSi F hM hg hd hrm hst hn hW d (fun z s9 hz => by rw [hz.1]; exact kk z hz.2)
theorem jw_callSzp (F : FX l R D dA wf cc nL own G) {y : MethodName} {cc' : ByteArray} {nL' index n : Nat} {ret : FieldType} {rm : Room} {As rest st0 : List Value} {Qp : Int → Prop} (hM : MXi l D dA wf y cc' nL' ret rm As σ (fun z s9 => (z = 0 ∨ z = 1) ∧ s9 = σ ∧ Qp z)) (hg : GoodIn lw_all (va_wsS own index y (ws_ y cc' nL' (some ret)))) (hd : y.cls ≠ "java/lang/invoke/MethodHandle" ∧ y.cls ≠ "java/lang/invoke/VarHandle" ∧ (parseMethodDescriptor y.desc).map (fun d => d.parameters.length) = some n) (hrm : rm.cells = 0 ∧ rm.slots = 0 ∧ rm.frames + 1 ≤ R.frames ∧ 8 + (nL' + 11) + rm.locals ≤ R.locals)  (hst : st0 = As.reverse ++ rest) (hn : As.length = n) (hW : (rest.map fun v => v.category).sum ≤ 8) (d : decode cc pc = .ok (.invokestatic index, 3)) (kk : ∀ z, (z = 0 ∨ z = 1) → Qp z → G σ (pc + 3) lv (.int (iI z) :: rest)) : G σ pc lv st0 := jw_callSi F hM hg hd hrm hst hn hW d (fun z s9 hz => by rw [hz.2.1]; exact kk z hz.1 hz.2.2)
theorem jw_callSlp (F : FX l R D dA wf cc nL own G) {y : MethodName} {cc' : ByteArray} {nL' index n : Nat} {rm : Room} {As rest st0 : List Value} {Qp : Int → Prop} (hM : MXl l D dA wf y cc' nL' rm As σ (fun z s9 => s9 = σ ∧ Qp z)) (hg : GoodIn lw_all (va_wsS own index y (ws_ y cc' nL' (some .long)))) (hd : y.cls ≠ "java/lang/invoke/MethodHandle" ∧ y.cls ≠ "java/lang/invoke/VarHandle" ∧ (parseMethodDescriptor y.desc).map (fun d => d.parameters.length) = some n) (hrm : rm.cells = 0 ∧ rm.slots = 0 ∧ rm.frames + 1 ≤ R.frames ∧ 8 + (nL' + 11) + rm.locals ≤ R.locals)  (hst : st0 = As.reverse ++ rest) (hn : As.length = n) (hW : (rest.map fun v => v.category).sum ≤ 8) (d : decode cc pc = .ok (.invokestatic index, 3)) (kk : ∀ z, Qp z → G σ (pc + 3) lv (.long (lI z) :: rest)) : G σ pc lv st0 := jw_callSl F hM hg hd hrm hst hn hW d (fun z s9 hz => by rw [hz.1]; exact kk z hz.2)
end JW2
