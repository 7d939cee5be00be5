/-! BASE, part 8: words that a call must hand on: nest mates, casts, abstract methods, arrays over a class -/
set_option maxRecDepth 100000
def AOi (U : State) : Prop := (Cond.arrayOver (.array .int)).before #[] U = true
theorem AOi.moved {u U : State} (hvm : u.vm.Alike U.vm) (h : AOi u) : AOi U := by
  have h1 : (Cond.arrayOver (.array .int)).before #[] (u.setVm U.vm) = true := by rw [Cond.arrayOver_setVmC hvm]; exact h
  exact h1
def nwk : Cond → Bool
  | .fieldLinkNest _ _ _ _ _ _ => true
  | .methodLinkNest _ _ _ _ => true
  | .castable _ _ => true
  | .declares _ => true
  | _ => false
/-- words of the tables that are no 'good' words -/
def NW (U : State) : Prop := ∀ w ∈ lw_tbl, nwk w = true → va_Nw w U
theorem NW.at {w : Cond} {U : State} {A : Array Value} (h : NW U) (hw : w ∈ lw_tbl) (hk : nwk w = true) (ho : w.onTables = true) : w.before A U = true := (h w hw hk).use ho
theorem NW.warm {s U : State} (hW : s.WarmedH U.vm) (h : NW s) : NW U := by
  intro w hw hk
  have h1 := h w hw hk
  cases w with
  | fieldLinkNest a i b n d x => exact h1.warmF hW
  | methodLinkNest a i x y => exact h1.warmM hW
  | castable C T => exact h1.warmC hW
  | declares x => exact h1.warmD hW
  | _ => cases hk
theorem NW.mv2 : mv2 NW := fun u U _ e h w hw hk => by
  have h1 := h w hw hk
  unfold va_Nw at *
  cases w with
  | fieldLinkNest a i b n d x => exact va_tabs rfl e.symm h1
  | methodLinkNest a i x y => exact va_tabs rfl e.symm h1
  | castable C T => exact va_tabs rfl e.symm h1
  | declares x => exact va_tabs rfl e.symm h1
  | _ => cases hk
theorem AOi.mv2 : mv2 AOi := fun u U _ e h => AOi.moved (by rw [e]; exact Vm.Alike.refl _) h
/-- what a call of a constructor asks -/
theorem cwC {R : Room} {s : State} {args : Array Value} {own : String} {index : Nat} {y : MethodName} {bytes : ByteArray} {maxL mc ms : Nat} {rm : Room} (n : Nat) (ht : ∀ w ∈ lw_all, w.before args s = true) (h1 : Cond.methodLink own index y ∈ lw_all) (h2 : Cond.instanceMethod y ∈ lw_all) (h3 : Cond.initialized y.cls ∈ lw_all) (h4 : Cond.code y bytes maxL none ∈ lw_all) (hy : y.name = "<init>") (hrc : rm.cells = mc) (hrs : rm.slots = ms)
    (hd : y.cls ≠ "java/lang/invoke/MethodHandle" ∧ y.cls ≠ "java/lang/invoke/VarHandle" ∧ (parseMethodDescriptor y.desc).map (fun d => d.parameters.length) = some n) (hR : rm.frames + 1 ≤ R.frames ∧ 8 + (maxL + 11) + rm.locals ≤ R.locals) :
    CallB R s args own index y bytes maxL none (ws_ y bytes maxL none) rm mc ms n ∧ y.name = "<init>" ∧ (Cond.instanceMethod y).before args s = true :=
  ⟨callB_of n ht (lw_meth h4) rfl hrc hrs (ht _ h3) (ht _ h1) hd hR, hy, ht _ h2⟩
theorem ins_perm (i : Nat) {x ws : va_W} : (x ++ ws).Perm (ws.take i ++ (x ++ ws.drop i)) := by
  have h : (x ++ (ws.take i ++ ws.drop i)).Perm (ws.take i ++ (x ++ ws.drop i)) := by
    rw [← List.append_assoc, ← List.append_assoc]
    exact List.Perm.append_right _ List.perm_append_comm
  rwa [List.take_append_drop] at h
theorem P_ins (i : Nat) {D : va_G} {cl : List vw_C} {x ws : va_W} {H : Heap} (h : va_P D cl (x ++ ws) H) : va_P D cl (ws.take i ++ (x ++ ws.drop i)) H := va_P_perm h (ins_perm i)
theorem D_ins (i : Nat) {A : Nat → Prop} {x ws : va_W} (h : va_D A (x ++ ws)) : va_D A (ws.take i ++ (x ++ ws.drop i)) := va_D_perm h (ins_perm i)
