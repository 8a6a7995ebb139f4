set_option maxRecDepth 100000
def CC (own : String) (E : CE) (M0 : CM) (p : Program) (s : State) (m : MethodId) (c : Code) (cc : ByteArray) (args : Array Value) : Prop := p.tables.exec = Jvm.exec ∧ c.code = cc ∧ (∀ w ∈ lw_all, w.before args s = true) ∧ s.vm.findClass own = some m.cls ∧ CK E s ∧ RC E M0 s.heap
