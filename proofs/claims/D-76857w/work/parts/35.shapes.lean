/-! 35 SHAPES: the classes that the lambdas make (by mklam.py) -/
set_option maxRecDepth 100000
def lD (σ : Lambda.Shape) : ClassFile := (σ.file "FreightRoads").getD { minorVersion := 0, majorVersion := 0, constantPool := #[], accessFlags := 0, thisClass := 0, superClass := 0, interfaces := #[], fields := #[], methods := #[], attributes := #[] }
def lF (σ : Lambda.Shape) : Method := ((layoutMethods (lD σ)).bind (·[1]?)).getD default
def lL (σ : Lambda.Shape) : Array Field × Array FieldType × Array FieldType := (layoutFields (lD σ) 0).getD (#[], #[], #[])
/-- what there is to know of a shape's class: its code, where it calls -/
def LSok (σ : Lambda.Shape) (bs : ByteArray) (ml im ic nt cn : Nat) : Prop := (σ.file "FreightRoads").isSome = true ∧ ((layoutMethods (lD σ)).bind (·[1]?)).isSome = true ∧ (layoutFields (lD σ) 0).isSome = true ∧ ((lF σ).code.map fun c => (c.code.data, c.maxLocals)) = some (bs.data, ml) ∧ ((lF σ).accessFlags, (lF σ).sig.returnType) = (0x0001, σ.sam.returnType) ∧ ((lD σ).constantPool[im]? = some (.methodref ic nt) ∧ (lD σ).constantPool.className? ic = some "FreightRoads" ∧ (lD σ).constantPool.nameAndType? nt = some (σ.implName, σ.implDesc.toString)) ∧ ((lD σ).constantPool[ic]? = some (.class_ cn) ∧ (lD σ).constantPool.string? cn = some "FreightRoads" ∧ ic ≠ (lD σ).thisClass) ∧ σ.implClass = "FreightRoads" ∧ σ.implItf = false
/-- its j-th field -/
def LSf (σ : Lambda.Shape) (j fi nt : Nat) (nm d : String) : Prop := (lD σ).constantPool[fi]? = some (.fieldref 2 nt) ∧ (lD σ).constantPool.nameAndType? nt = some (nm, d) ∧ (lL σ).1.findIdx? (·.name == nm) = some j ∧ ((lL σ).1[j]?).map (fun f => (f.isStatic, f.slot)) = some (false, j)

/-- FreightRoads$Tells: lambda$new$4; sites <init> 205 (1) -/
def sh_1 : Lambda.Shape := ({ iface := "FreightRoads$Tells", name := "it", sam := ({ parameters := [], returnType := (Option.some Jvm.ClassFile.FieldType.int) } : Jvm.ClassFile.MethodDescriptor), captured := [(Jvm.ClassFile.FieldType.object "FreightRoads")], kind := 5, implClass := "FreightRoads", implName := "lambda$new$4", implDesc := ({ parameters := [], returnType := (Option.some Jvm.ClassFile.FieldType.int) } : Jvm.ClassFile.MethodDescriptor), implItf := false, inst := ({ parameters := [], returnType := (Option.some Jvm.ClassFile.FieldType.int) } : Jvm.ClassFile.MethodDescriptor) } : Jvm.Lambda.Shape)
def bs_1 : ByteArray := ⟨#[0x2a, 0xb4, 0x00, 0x0f, 0xb6, 0x00, 0x16, 0xac]⟩
theorem ds_1_0 : decode bs_1 0 = .ok (.aload_n 0, 1) := by decide +kernel
theorem ds_1_1 : decode bs_1 1 = .ok (.getfield 15, 3) := by decide +kernel
theorem ds_1_4 : decode bs_1 4 = .ok (.invokevirtual 22, 3) := by decide +kernel
theorem ds_1_7 : decode bs_1 7 = .ok (.ireturn, 1) := by decide +kernel
theorem ls_1 : LSok sh_1 bs_1 1 22 19 21 18 := by unfold LSok; decide +kernel
theorem lf_1_0 : LSf sh_1 0 15 14 "arg$1" "LFreightRoads;" := by unfold LSf; decide +kernel
theorem lt_1 : (lL sh_1).2.1 = #[.object "FreightRoads"] := by decide +kernel
/-- FreightRoads$Tells: lambda$new$5; sites <init> 218 (2) -/
def sh_2 : Lambda.Shape := ({ iface := "FreightRoads$Tells", name := "it", sam := ({ parameters := [], returnType := (Option.some Jvm.ClassFile.FieldType.int) } : Jvm.ClassFile.MethodDescriptor), captured := [(Jvm.ClassFile.FieldType.object "FreightRoads")], kind := 5, implClass := "FreightRoads", implName := "lambda$new$5", implDesc := ({ parameters := [], returnType := (Option.some Jvm.ClassFile.FieldType.int) } : Jvm.ClassFile.MethodDescriptor), implItf := false, inst := ({ parameters := [], returnType := (Option.some Jvm.ClassFile.FieldType.int) } : Jvm.ClassFile.MethodDescriptor) } : Jvm.Lambda.Shape)
def bs_2 : ByteArray := ⟨#[0x2a, 0xb4, 0x00, 0x0f, 0xb6, 0x00, 0x16, 0xac]⟩
theorem ds_2_0 : decode bs_2 0 = .ok (.aload_n 0, 1) := by decide +kernel
theorem ds_2_1 : decode bs_2 1 = .ok (.getfield 15, 3) := by decide +kernel
theorem ds_2_4 : decode bs_2 4 = .ok (.invokevirtual 22, 3) := by decide +kernel
theorem ds_2_7 : decode bs_2 7 = .ok (.ireturn, 1) := by decide +kernel
theorem ls_2 : LSok sh_2 bs_2 1 22 19 21 18 := by unfold LSok; decide +kernel
theorem lf_2_0 : LSf sh_2 0 15 14 "arg$1" "LFreightRoads;" := by unfold LSf; decide +kernel
theorem lt_2 : (lL sh_2).2.1 = #[.object "FreightRoads"] := by decide +kernel
/-- FreightRoads$Tells: sumOfSupplies; sites <init> 231 (3) -/
def sh_3 : Lambda.Shape := ({ iface := "FreightRoads$Tells", name := "it", sam := ({ parameters := [], returnType := (Option.some Jvm.ClassFile.FieldType.int) } : Jvm.ClassFile.MethodDescriptor), captured := [(Jvm.ClassFile.FieldType.object "FreightRoads")], kind := 5, implClass := "FreightRoads", implName := "sumOfSupplies", implDesc := ({ parameters := [], returnType := (Option.some Jvm.ClassFile.FieldType.int) } : Jvm.ClassFile.MethodDescriptor), implItf := false, inst := ({ parameters := [], returnType := (Option.some Jvm.ClassFile.FieldType.int) } : Jvm.ClassFile.MethodDescriptor) } : Jvm.Lambda.Shape)
def bs_3 : ByteArray := ⟨#[0x2a, 0xb4, 0x00, 0x0f, 0xb6, 0x00, 0x16, 0xac]⟩
theorem ds_3_0 : decode bs_3 0 = .ok (.aload_n 0, 1) := by decide +kernel
theorem ds_3_1 : decode bs_3 1 = .ok (.getfield 15, 3) := by decide +kernel
theorem ds_3_4 : decode bs_3 4 = .ok (.invokevirtual 22, 3) := by decide +kernel
theorem ds_3_7 : decode bs_3 7 = .ok (.ireturn, 1) := by decide +kernel
theorem ls_3 : LSok sh_3 bs_3 1 22 19 21 18 := by unfold LSok; decide +kernel
theorem lf_3_0 : LSf sh_3 0 15 14 "arg$1" "LFreightRoads;" := by unfold LSf; decide +kernel
theorem lt_3 : (lL sh_3).2.1 = #[.object "FreightRoads"] := by decide +kernel
/-- FreightRoads$Tells: lambda$new$6; sites <init> 244 (4) -/
def sh_4 : Lambda.Shape := ({ iface := "FreightRoads$Tells", name := "it", sam := ({ parameters := [], returnType := (Option.some Jvm.ClassFile.FieldType.int) } : Jvm.ClassFile.MethodDescriptor), captured := [(Jvm.ClassFile.FieldType.object "FreightRoads")], kind := 5, implClass := "FreightRoads", implName := "lambda$new$6", implDesc := ({ parameters := [], returnType := (Option.some Jvm.ClassFile.FieldType.int) } : Jvm.ClassFile.MethodDescriptor), implItf := false, inst := ({ parameters := [], returnType := (Option.some Jvm.ClassFile.FieldType.int) } : Jvm.ClassFile.MethodDescriptor) } : Jvm.Lambda.Shape)
def bs_4 : ByteArray := ⟨#[0x2a, 0xb4, 0x00, 0x0f, 0xb6, 0x00, 0x16, 0xac]⟩
theorem ds_4_0 : decode bs_4 0 = .ok (.aload_n 0, 1) := by decide +kernel
theorem ds_4_1 : decode bs_4 1 = .ok (.getfield 15, 3) := by decide +kernel
theorem ds_4_4 : decode bs_4 4 = .ok (.invokevirtual 22, 3) := by decide +kernel
theorem ds_4_7 : decode bs_4 7 = .ok (.ireturn, 1) := by decide +kernel
theorem ls_4 : LSok sh_4 bs_4 1 22 19 21 18 := by unfold LSok; decide +kernel
theorem lf_4_0 : LSf sh_4 0 15 14 "arg$1" "LFreightRoads;" := by unfold LSf; decide +kernel
theorem lt_4 : (lL sh_4).2.1 = #[.object "FreightRoads"] := by decide +kernel
/-- FreightRoads$Tells: lambda$new$7; sites <init> 257 (5) -/
def sh_5 : Lambda.Shape := ({ iface := "FreightRoads$Tells", name := "it", sam := ({ parameters := [], returnType := (Option.some Jvm.ClassFile.FieldType.int) } : Jvm.ClassFile.MethodDescriptor), captured := [(Jvm.ClassFile.FieldType.object "FreightRoads")], kind := 5, implClass := "FreightRoads", implName := "lambda$new$7", implDesc := ({ parameters := [], returnType := (Option.some Jvm.ClassFile.FieldType.int) } : Jvm.ClassFile.MethodDescriptor), implItf := false, inst := ({ parameters := [], returnType := (Option.some Jvm.ClassFile.FieldType.int) } : Jvm.ClassFile.MethodDescriptor) } : Jvm.Lambda.Shape)
def bs_5 : ByteArray := ⟨#[0x2a, 0xb4, 0x00, 0x0f, 0xb6, 0x00, 0x16, 0xac]⟩
theorem ds_5_0 : decode bs_5 0 = .ok (.aload_n 0, 1) := by decide +kernel
theorem ds_5_1 : decode bs_5 1 = .ok (.getfield 15, 3) := by decide +kernel
theorem ds_5_4 : decode bs_5 4 = .ok (.invokevirtual 22, 3) := by decide +kernel
theorem ds_5_7 : decode bs_5 7 = .ok (.ireturn, 1) := by decide +kernel
theorem ls_5 : LSok sh_5 bs_5 1 22 19 21 18 := by unfold LSok; decide +kernel
theorem lf_5_0 : LSf sh_5 0 15 14 "arg$1" "LFreightRoads;" := by unfold LSf; decide +kernel
theorem lt_5 : (lL sh_5).2.1 = #[.object "FreightRoads"] := by decide +kernel
/-- FreightRoads$Tells: lambda$new$8; sites <init> 270 (6) -/
def sh_6 : Lambda.Shape := ({ iface := "FreightRoads$Tells", name := "it", sam := ({ parameters := [], returnType := (Option.some Jvm.ClassFile.FieldType.int) } : Jvm.ClassFile.MethodDescriptor), captured := [(Jvm.ClassFile.FieldType.object "FreightRoads")], kind := 5, implClass := "FreightRoads", implName := "lambda$new$8", implDesc := ({ parameters := [], returnType := (Option.some Jvm.ClassFile.FieldType.int) } : Jvm.ClassFile.MethodDescriptor), implItf := false, inst := ({ parameters := [], returnType := (Option.some Jvm.ClassFile.FieldType.int) } : Jvm.ClassFile.MethodDescriptor) } : Jvm.Lambda.Shape)
def bs_6 : ByteArray := ⟨#[0x2a, 0xb4, 0x00, 0x0f, 0xb6, 0x00, 0x16, 0xac]⟩
theorem ds_6_0 : decode bs_6 0 = .ok (.aload_n 0, 1) := by decide +kernel
theorem ds_6_1 : decode bs_6 1 = .ok (.getfield 15, 3) := by decide +kernel
theorem ds_6_4 : decode bs_6 4 = .ok (.invokevirtual 22, 3) := by decide +kernel
theorem ds_6_7 : decode bs_6 7 = .ok (.ireturn, 1) := by decide +kernel
theorem ls_6 : LSok sh_6 bs_6 1 22 19 21 18 := by unfold LSok; decide +kernel
theorem lf_6_0 : LSf sh_6 0 15 14 "arg$1" "LFreightRoads;" := by unfold LSf; decide +kernel
theorem lt_6 : (lL sh_6).2.1 = #[.object "FreightRoads"] := by decide +kernel
/-- FreightRoads$Tells: tight; sites <init> 283 (7) -/
def sh_7 : Lambda.Shape := ({ iface := "FreightRoads$Tells", name := "it", sam := ({ parameters := [], returnType := (Option.some Jvm.ClassFile.FieldType.int) } : Jvm.ClassFile.MethodDescriptor), captured := [(Jvm.ClassFile.FieldType.object "FreightRoads")], kind := 5, implClass := "FreightRoads", implName := "tight", implDesc := ({ parameters := [], returnType := (Option.some Jvm.ClassFile.FieldType.int) } : Jvm.ClassFile.MethodDescriptor), implItf := false, inst := ({ parameters := [], returnType := (Option.some Jvm.ClassFile.FieldType.int) } : Jvm.ClassFile.MethodDescriptor) } : Jvm.Lambda.Shape)
def bs_7 : ByteArray := ⟨#[0x2a, 0xb4, 0x00, 0x0f, 0xb6, 0x00, 0x16, 0xac]⟩
theorem ds_7_0 : decode bs_7 0 = .ok (.aload_n 0, 1) := by decide +kernel
theorem ds_7_1 : decode bs_7 1 = .ok (.getfield 15, 3) := by decide +kernel
theorem ds_7_4 : decode bs_7 4 = .ok (.invokevirtual 22, 3) := by decide +kernel
theorem ds_7_7 : decode bs_7 7 = .ok (.ireturn, 1) := by decide +kernel
theorem ls_7 : LSok sh_7 bs_7 1 22 19 21 18 := by unfold LSok; decide +kernel
theorem lf_7_0 : LSf sh_7 0 15 14 "arg$1" "LFreightRoads;" := by unfold LSf; decide +kernel
theorem lt_7 : (lL sh_7).2.1 = #[.object "FreightRoads"] := by decide +kernel
/-- FreightRoads$Part: readRoad; sites roads 9 (8) -/
def sh_8 : Lambda.Shape := ({ iface := "FreightRoads$Part", name := "read", sam := ({ parameters := [], returnType := (Option.none : Option Jvm.ClassFile.FieldType) } : Jvm.ClassFile.MethodDescriptor), captured := [(Jvm.ClassFile.FieldType.object "FreightRoads")], kind := 5, implClass := "FreightRoads", implName := "readRoad", implDesc := ({ parameters := [], returnType := (Option.none : Option Jvm.ClassFile.FieldType) } : Jvm.ClassFile.MethodDescriptor), implItf := false, inst := ({ parameters := [], returnType := (Option.none : Option Jvm.ClassFile.FieldType) } : Jvm.ClassFile.MethodDescriptor) } : Jvm.Lambda.Shape)
def bs_8 : ByteArray := ⟨#[0x2a, 0xb4, 0x00, 0x0f, 0xb6, 0x00, 0x15, 0xb1]⟩
theorem ds_8_0 : decode bs_8 0 = .ok (.aload_n 0, 1) := by decide +kernel
theorem ds_8_1 : decode bs_8 1 = .ok (.getfield 15, 3) := by decide +kernel
theorem ds_8_4 : decode bs_8 4 = .ok (.invokevirtual 21, 3) := by decide +kernel
theorem ds_8_7 : decode bs_8 7 = .ok (.return_, 1) := by decide +kernel
theorem ls_8 : LSok sh_8 bs_8 1 21 18 20 17 := by unfold LSok; decide +kernel
theorem lf_8_0 : LSf sh_8 0 15 14 "arg$1" "LFreightRoads;" := by unfold LSf; decide +kernel
theorem lt_8 : (lL sh_8).2.1 = #[.object "FreightRoads"] := by decide +kernel
/-- FreightRoads$Part: readSupply; sites supplies 17 (9) -/
def sh_9 : Lambda.Shape := ({ iface := "FreightRoads$Part", name := "read", sam := ({ parameters := [], returnType := (Option.none : Option Jvm.ClassFile.FieldType) } : Jvm.ClassFile.MethodDescriptor), captured := [(Jvm.ClassFile.FieldType.object "FreightRoads")], kind := 5, implClass := "FreightRoads", implName := "readSupply", implDesc := ({ parameters := [], returnType := (Option.none : Option Jvm.ClassFile.FieldType) } : Jvm.ClassFile.MethodDescriptor), implItf := false, inst := ({ parameters := [], returnType := (Option.none : Option Jvm.ClassFile.FieldType) } : Jvm.ClassFile.MethodDescriptor) } : Jvm.Lambda.Shape)
def bs_9 : ByteArray := ⟨#[0x2a, 0xb4, 0x00, 0x0f, 0xb6, 0x00, 0x15, 0xb1]⟩
theorem ds_9_0 : decode bs_9 0 = .ok (.aload_n 0, 1) := by decide +kernel
theorem ds_9_1 : decode bs_9 1 = .ok (.getfield 15, 3) := by decide +kernel
theorem ds_9_4 : decode bs_9 4 = .ok (.invokevirtual 21, 3) := by decide +kernel
theorem ds_9_7 : decode bs_9 7 = .ok (.return_, 1) := by decide +kernel
theorem ls_9 : LSok sh_9 bs_9 1 21 18 20 17 := by unfold LSok; decide +kernel
theorem lf_9_0 : LSf sh_9 0 15 14 "arg$1" "LFreightRoads;" := by unfold LSf; decide +kernel
theorem lt_9 : (lL sh_9).2.1 = #[.object "FreightRoads"] := by decide +kernel
/-- FreightRoads$Thought: lambda$wider$0; sites wider 27 (10) -/
def sh_10 : Lambda.Shape := ({ iface := "FreightRoads$Thought", name := "on", sam := ({ parameters := [(Jvm.ClassFile.FieldType.object "FreightRoads$Net")], returnType := (Option.none : Option Jvm.ClassFile.FieldType) } : Jvm.ClassFile.MethodDescriptor), captured := [Jvm.ClassFile.FieldType.int, Jvm.ClassFile.FieldType.int], kind := 6, implClass := "FreightRoads", implName := "lambda$wider$0", implDesc := ({ parameters := [Jvm.ClassFile.FieldType.int, Jvm.ClassFile.FieldType.int, (Jvm.ClassFile.FieldType.object "FreightRoads$Net")], returnType := (Option.none : Option Jvm.ClassFile.FieldType) } : Jvm.ClassFile.MethodDescriptor), implItf := false, inst := ({ parameters := [(Jvm.ClassFile.FieldType.object "FreightRoads$Net")], returnType := (Option.none : Option Jvm.ClassFile.FieldType) } : Jvm.ClassFile.MethodDescriptor) } : Jvm.Lambda.Shape)
def bs_10 : ByteArray := ⟨#[0x2a, 0xb4, 0x00, 0x10, 0x2a, 0xb4, 0x00, 0x12, 0x2b, 0xb8, 0x00, 0x1a, 0xb1]⟩
theorem ds_10_0 : decode bs_10 0 = .ok (.aload_n 0, 1) := by decide +kernel
theorem ds_10_1 : decode bs_10 1 = .ok (.getfield 16, 3) := by decide +kernel
theorem ds_10_4 : decode bs_10 4 = .ok (.aload_n 0, 1) := by decide +kernel
theorem ds_10_5 : decode bs_10 5 = .ok (.getfield 18, 3) := by decide +kernel
theorem ds_10_8 : decode bs_10 8 = .ok (.aload_n 1, 1) := by decide +kernel
theorem ds_10_9 : decode bs_10 9 = .ok (.invokestatic 26, 3) := by decide +kernel
theorem ds_10_12 : decode bs_10 12 = .ok (.return_, 1) := by decide +kernel
theorem ls_10 : LSok sh_10 bs_10 2 26 22 25 21 := by unfold LSok; decide +kernel
theorem lf_10_0 : LSf sh_10 0 16 15 "arg$1" "I" := by unfold LSf; decide +kernel
theorem lf_10_1 : LSf sh_10 1 18 17 "arg$2" "I" := by unfold LSf; decide +kernel
theorem lt_10 : (lL sh_10).2.1 = #[.int, .int] := by decide +kernel
/-- FreightRoads$Loss: less; sites wider 32 (11), adding 34 (15) -/
def sh_11 : Lambda.Shape := ({ iface := "FreightRoads$Loss", name := "of", sam := ({ parameters := [Jvm.ClassFile.FieldType.long, Jvm.ClassFile.FieldType.long], returnType := (Option.some Jvm.ClassFile.FieldType.long) } : Jvm.ClassFile.MethodDescriptor), captured := [], kind := 6, implClass := "FreightRoads", implName := "less", implDesc := ({ parameters := [Jvm.ClassFile.FieldType.long, Jvm.ClassFile.FieldType.long], returnType := (Option.some Jvm.ClassFile.FieldType.long) } : Jvm.ClassFile.MethodDescriptor), implItf := false, inst := ({ parameters := [Jvm.ClassFile.FieldType.long, Jvm.ClassFile.FieldType.long], returnType := (Option.some Jvm.ClassFile.FieldType.long) } : Jvm.ClassFile.MethodDescriptor) } : Jvm.Lambda.Shape)
def bs_11 : ByteArray := ⟨#[0x1f, 0x21, 0xb8, 0x00, 0x11, 0xad]⟩
theorem ds_11_0 : decode bs_11 0 = .ok (.lload_n 1, 1) := by decide +kernel
theorem ds_11_1 : decode bs_11 1 = .ok (.lload_n 3, 1) := by decide +kernel
theorem ds_11_2 : decode bs_11 2 = .ok (.invokestatic 17, 3) := by decide +kernel
theorem ds_11_5 : decode bs_11 5 = .ok (.lreturn, 1) := by decide +kernel
theorem ls_11 : LSok sh_11 bs_11 5 17 14 16 13 := by unfold LSok; decide +kernel
theorem lt_11 : (lL sh_11).2.1 = #[] := by decide +kernel
/-- FreightRoads$Thought: lambda$without$1; sites without 10 (12) -/
def sh_12 : Lambda.Shape := ({ iface := "FreightRoads$Thought", name := "on", sam := ({ parameters := [(Jvm.ClassFile.FieldType.object "FreightRoads$Net")], returnType := (Option.none : Option Jvm.ClassFile.FieldType) } : Jvm.ClassFile.MethodDescriptor), captured := [Jvm.ClassFile.FieldType.int], kind := 6, implClass := "FreightRoads", implName := "lambda$without$1", implDesc := ({ parameters := [Jvm.ClassFile.FieldType.int, (Jvm.ClassFile.FieldType.object "FreightRoads$Net")], returnType := (Option.none : Option Jvm.ClassFile.FieldType) } : Jvm.ClassFile.MethodDescriptor), implItf := false, inst := ({ parameters := [(Jvm.ClassFile.FieldType.object "FreightRoads$Net")], returnType := (Option.none : Option Jvm.ClassFile.FieldType) } : Jvm.ClassFile.MethodDescriptor) } : Jvm.Lambda.Shape)
def bs_12 : ByteArray := ⟨#[0x2a, 0xb4, 0x00, 0x0f, 0x2b, 0xb8, 0x00, 0x17, 0xb1]⟩
theorem ds_12_0 : decode bs_12 0 = .ok (.aload_n 0, 1) := by decide +kernel
theorem ds_12_1 : decode bs_12 1 = .ok (.getfield 15, 3) := by decide +kernel
theorem ds_12_4 : decode bs_12 4 = .ok (.aload_n 1, 1) := by decide +kernel
theorem ds_12_5 : decode bs_12 5 = .ok (.invokestatic 23, 3) := by decide +kernel
theorem ds_12_8 : decode bs_12 8 = .ok (.return_, 1) := by decide +kernel
theorem ls_12 : LSok sh_12 bs_12 2 23 19 22 18 := by unfold LSok; decide +kernel
theorem lf_12_0 : LSf sh_12 0 15 14 "arg$1" "I" := by unfold LSf; decide +kernel
theorem lt_12 : (lL sh_12).2.1 = #[.int] := by decide +kernel
/-- FreightRoads$Loss: more; sites without 15 (13), sent 34 (17) -/
def sh_13 : Lambda.Shape := ({ iface := "FreightRoads$Loss", name := "of", sam := ({ parameters := [Jvm.ClassFile.FieldType.long, Jvm.ClassFile.FieldType.long], returnType := (Option.some Jvm.ClassFile.FieldType.long) } : Jvm.ClassFile.MethodDescriptor), captured := [], kind := 6, implClass := "FreightRoads", implName := "more", implDesc := ({ parameters := [Jvm.ClassFile.FieldType.long, Jvm.ClassFile.FieldType.long], returnType := (Option.some Jvm.ClassFile.FieldType.long) } : Jvm.ClassFile.MethodDescriptor), implItf := false, inst := ({ parameters := [Jvm.ClassFile.FieldType.long, Jvm.ClassFile.FieldType.long], returnType := (Option.some Jvm.ClassFile.FieldType.long) } : Jvm.ClassFile.MethodDescriptor) } : Jvm.Lambda.Shape)
def bs_13 : ByteArray := ⟨#[0x1f, 0x21, 0xb8, 0x00, 0x11, 0xad]⟩
theorem ds_13_0 : decode bs_13 0 = .ok (.lload_n 1, 1) := by decide +kernel
theorem ds_13_1 : decode bs_13 1 = .ok (.lload_n 3, 1) := by decide +kernel
theorem ds_13_2 : decode bs_13 2 = .ok (.invokestatic 17, 3) := by decide +kernel
theorem ds_13_5 : decode bs_13 5 = .ok (.lreturn, 1) := by decide +kernel
theorem ls_13 : LSok sh_13 bs_13 5 17 14 16 13 := by unfold LSok; decide +kernel
theorem lt_13 : (lL sh_13).2.1 = #[] := by decide +kernel
/-- FreightRoads$Thought: lambda$adding$2; sites adding 29 (14) -/
def sh_14 : Lambda.Shape := ({ iface := "FreightRoads$Thought", name := "on", sam := ({ parameters := [(Jvm.ClassFile.FieldType.object "FreightRoads$Net")], returnType := (Option.none : Option Jvm.ClassFile.FieldType) } : Jvm.ClassFile.MethodDescriptor), captured := [Jvm.ClassFile.FieldType.int, Jvm.ClassFile.FieldType.int, Jvm.ClassFile.FieldType.int, Jvm.ClassFile.FieldType.long], kind := 6, implClass := "FreightRoads", implName := "lambda$adding$2", implDesc := ({ parameters := [Jvm.ClassFile.FieldType.int, Jvm.ClassFile.FieldType.int, Jvm.ClassFile.FieldType.int, Jvm.ClassFile.FieldType.long, (Jvm.ClassFile.FieldType.object "FreightRoads$Net")], returnType := (Option.none : Option Jvm.ClassFile.FieldType) } : Jvm.ClassFile.MethodDescriptor), implItf := false, inst := ({ parameters := [(Jvm.ClassFile.FieldType.object "FreightRoads$Net")], returnType := (Option.none : Option Jvm.ClassFile.FieldType) } : Jvm.ClassFile.MethodDescriptor) } : Jvm.Lambda.Shape)
def bs_14 : ByteArray := ⟨#[0x2a, 0xb4, 0x00, 0x13, 0x2a, 0xb4, 0x00, 0x15, 0x2a, 0xb4, 0x00, 0x17, 0x2a, 0xb4, 0x00, 0x19, 0x2b, 0xb8, 0x00, 0x21, 0xb1]⟩
theorem ds_14_0 : decode bs_14 0 = .ok (.aload_n 0, 1) := by decide +kernel
theorem ds_14_1 : decode bs_14 1 = .ok (.getfield 19, 3) := by decide +kernel
theorem ds_14_4 : decode bs_14 4 = .ok (.aload_n 0, 1) := by decide +kernel
theorem ds_14_5 : decode bs_14 5 = .ok (.getfield 21, 3) := by decide +kernel
theorem ds_14_8 : decode bs_14 8 = .ok (.aload_n 0, 1) := by decide +kernel
theorem ds_14_9 : decode bs_14 9 = .ok (.getfield 23, 3) := by decide +kernel
theorem ds_14_12 : decode bs_14 12 = .ok (.aload_n 0, 1) := by decide +kernel
theorem ds_14_13 : decode bs_14 13 = .ok (.getfield 25, 3) := by decide +kernel
theorem ds_14_16 : decode bs_14 16 = .ok (.aload_n 1, 1) := by decide +kernel
theorem ds_14_17 : decode bs_14 17 = .ok (.invokestatic 33, 3) := by decide +kernel
theorem ds_14_20 : decode bs_14 20 = .ok (.return_, 1) := by decide +kernel
theorem ls_14 : LSok sh_14 bs_14 2 33 29 32 28 := by unfold LSok; decide +kernel
theorem lf_14_0 : LSf sh_14 0 19 18 "arg$1" "I" := by unfold LSf; decide +kernel
theorem lf_14_1 : LSf sh_14 1 21 20 "arg$2" "I" := by unfold LSf; decide +kernel
theorem lf_14_2 : LSf sh_14 2 23 22 "arg$3" "I" := by unfold LSf; decide +kernel
theorem lf_14_3 : LSf sh_14 3 25 24 "arg$4" "J" := by unfold LSf; decide +kernel
theorem lt_14 : (lL sh_14).2.1 = #[.int, .int, .int, .long] := by decide +kernel
/-- FreightRoads$Thought: lambda$sent$3; sites sent 29 (16) -/
def sh_15 : Lambda.Shape := ({ iface := "FreightRoads$Thought", name := "on", sam := ({ parameters := [(Jvm.ClassFile.FieldType.object "FreightRoads$Net")], returnType := (Option.none : Option Jvm.ClassFile.FieldType) } : Jvm.ClassFile.MethodDescriptor), captured := [Jvm.ClassFile.FieldType.int, Jvm.ClassFile.FieldType.int, Jvm.ClassFile.FieldType.int], kind := 6, implClass := "FreightRoads", implName := "lambda$sent$3", implDesc := ({ parameters := [Jvm.ClassFile.FieldType.int, Jvm.ClassFile.FieldType.int, Jvm.ClassFile.FieldType.int, (Jvm.ClassFile.FieldType.object "FreightRoads$Net")], returnType := (Option.none : Option Jvm.ClassFile.FieldType) } : Jvm.ClassFile.MethodDescriptor), implItf := false, inst := ({ parameters := [(Jvm.ClassFile.FieldType.object "FreightRoads$Net")], returnType := (Option.none : Option Jvm.ClassFile.FieldType) } : Jvm.ClassFile.MethodDescriptor) } : Jvm.Lambda.Shape)
def bs_15 : ByteArray := ⟨#[0x2a, 0xb4, 0x00, 0x11, 0x2a, 0xb4, 0x00, 0x13, 0x2a, 0xb4, 0x00, 0x15, 0x2b, 0xb8, 0x00, 0x1d, 0xb1]⟩
theorem ds_15_0 : decode bs_15 0 = .ok (.aload_n 0, 1) := by decide +kernel
theorem ds_15_1 : decode bs_15 1 = .ok (.getfield 17, 3) := by decide +kernel
theorem ds_15_4 : decode bs_15 4 = .ok (.aload_n 0, 1) := by decide +kernel
theorem ds_15_5 : decode bs_15 5 = .ok (.getfield 19, 3) := by decide +kernel
theorem ds_15_8 : decode bs_15 8 = .ok (.aload_n 0, 1) := by decide +kernel
theorem ds_15_9 : decode bs_15 9 = .ok (.getfield 21, 3) := by decide +kernel
theorem ds_15_12 : decode bs_15 12 = .ok (.aload_n 1, 1) := by decide +kernel
theorem ds_15_13 : decode bs_15 13 = .ok (.invokestatic 29, 3) := by decide +kernel
theorem ds_15_16 : decode bs_15 16 = .ok (.return_, 1) := by decide +kernel
theorem ls_15 : LSok sh_15 bs_15 2 29 25 28 24 := by unfold LSok; decide +kernel
theorem lf_15_0 : LSf sh_15 0 17 16 "arg$1" "I" := by unfold LSf; decide +kernel
theorem lf_15_1 : LSf sh_15 1 19 18 "arg$2" "I" := by unfold LSf; decide +kernel
theorem lf_15_2 : LSf sh_15 2 21 20 "arg$3" "I" := by unfold LSf; decide +kernel
theorem lt_15 : (lL sh_15).2.1 = #[.int, .int, .int] := by decide +kernel
